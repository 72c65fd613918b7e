/-! THE PLAIN LAW, 26: the two states: what ties them -/
set_option maxRecDepth 100000
/-- what was there is there -/
def Ex (τ τ' : HP) : Prop := ∀ q y, τ.1 q = some y → τ'.1 q = some y
theorem Fr.ex {τ τ' : HP} (h : Fr [] τ τ') (hf : Wf τ) : Ex τ τ' := fun q y hq => h.at hf hq (by simp)
theorem Ex.rfl {τ : HP} : Ex τ τ := fun _ _ h => h
/-- finds, seats, shops -/
abbrev Stt : Type := Nat × (Nat → Nat → Int32) × Nat × (Nat → Int32) × Nat × (Nat → Nat → Int32)
abbrev Stt.nf (S : Stt) : Nat := S.1
abbrev Stt.fd (S : Stt) : Nat → Nat → Int32 := S.2.1
abbrev Stt.ns (S : Stt) : Nat := S.2.2.1
abbrev Stt.se (S : Stt) : Nat → Int32 := S.2.2.2.1
abbrev Stt.nh (S : Stt) : Nat := S.2.2.2.2.1
abbrev Stt.sh (S : Stt) : Nat → Nat → Int32 := S.2.2.2.2.2
def ShOk (r : Nat → Int32) : Prop := Ix (r 0) 10 ∧ ∃ a b : Nat, r 1 = nI a ∧ r 2 = nI b ∧ a ≤ b ∧ 1 ≤ b ∧ b ≤ 1000000
def SttOk (S : Stt) : Prop := S.nf ≤ 8 ∧ (∀ f, f < S.nf → FdOk (S.fd f)) ∧ S.ns ≤ 40 ∧ (∀ k, k < S.ns → Ix (S.se k) 1024) ∧ S.nh ≤ 12 ∧ ∀ k, k < S.nh → ShOk (S.sh k)
/-- in the model: the present state, and the image i -/
def curM (σ : MSt) (S : Stt) : Prop := σ.1 28 = nI S.nf ∧ (∀ f j, f < S.nf → j < 4 → σ.2.2 32 f j = S.fd f j) ∧ σ.1 29 = nI S.ns ∧ (∀ k, k < S.ns → σ.2.1 33 k = S.se k) ∧ σ.1 30 = nI S.nh ∧ ∀ k j, k < S.nh → j < 3 → σ.2.2 34 k j = S.sh k j
def imgM (σ : MSt) (i : Nat) (S : Stt) : Prop := σ.2.2 38 i 0 = nI S.nf ∧ (∀ f j, f < S.nf → j < 4 → σ.2.2 35 (8 * i + f) j = S.fd f j) ∧ σ.2.2 38 i 1 = nI S.ns ∧ (∀ k, k < S.ns → σ.2.2 36 i k = S.se k) ∧ σ.2.2 38 i 2 = nI S.nh ∧ ∀ k j, k < S.nh → j < 3 → σ.2.2 37 (12 * i + k) j = S.sh k j
def ShR (τ : HP) (a : Nat) (q : Nat → Int32) : Prop := τ.1 a = some (.inr (12, [.int (q 0), .int (q 1), .int (q 2)]))
/-- a State object; rg says whose a cell is -/
def StR (τ : HP) (rg : Nat → Nat) (b s : Nat) (S : Stt) : Prop :=
  ∃ fl d1 fs hl d2 hs sa g, τ.1 s = some (.inr (2, [.ref fl, .ref hl, .ref sa, .int (nI S.ns)])) ∧ (LA τ fl d1 fs ∧ fs.length = S.nf ∧ ∀ f, f < S.nf → ∃ a, fs[f]? = some a ∧ FdR τ a (S.fd f)) ∧
    (LA τ hl d2 hs ∧ hs.length = S.nh ∧ ∀ k, k < S.nh → ∃ a, hs[k]? = some a ∧ ShR τ a (S.sh k)) ∧ (τ.1 sa = some (.inl (0, 40, .inl g)) ∧ ∀ k, k < S.ns → g k = S.se k) ∧
    (rg s = b ∧ rg fl = b + 1 ∧ rg d1 = b + 2 ∧ rg hl = b + 3 ∧ rg d2 = b + 4 ∧ rg sa = b + 5)
theorem LA.ex {τ τ' : HP} {l d : Nat} {es : List Nat} (h : LA τ l d es) (hx : Ex τ τ') : LA τ' l d es := by
  obtain ⟨mc, cap, f, h1, h2, h3⟩ := h
  exact ⟨mc, cap, f, hx _ _ h1, hx _ _ h2, h3⟩
theorem StR.ex {τ τ' : HP} {rg : Nat → Nat} {b s : Nat} {S : Stt} (h : StR τ rg b s S) (hx : Ex τ τ') : StR τ' rg b s S := by
  obtain ⟨fl, d1, fs, hl, d2, hs, sa, g, h1, ⟨h2, h3, h4⟩, ⟨h5, h6, h7⟩, ⟨h8, h9⟩, h10⟩ := h
  refine ⟨fl, d1, fs, hl, d2, hs, sa, g, hx _ _ h1, ⟨h2.ex hx, h3, fun f hf => ?_⟩, ⟨h5.ex hx, h6, fun k hk => ?_⟩, ⟨hx _ _ h8, h9⟩, h10⟩
  · obtain ⟨a, a1, a2⟩ := h4 f hf
    exact ⟨a, a1, hx _ _ a2⟩
  · obtain ⟨a, a1, a2⟩ := h7 k hk
    exact ⟨a, a1, hx _ _ a2⟩
theorem EsR.ex {τ τ' : HP} {l d : Nat} {es : List Nat} {cs : List (Nat × Nat × Nat × Nat)} (h : EsR τ l d es cs) (hx : Ex τ τ') : EsR τ' l d es cs := by
  obtain ⟨h1, h2, h3⟩ := h
  refine ⟨h1.ex hx, h2, fun i c hc => ?_⟩
  obtain ⟨a, a1, c', y, a2, a3⟩ := h3 i c hc
  exact ⟨a, a1, c', y, hx _ _ a2, a3⟩
/-- a story: its events are in order -/
def StoryOk (c : List (Nat × Nat × Nat × Nat)) : Prop := c.length ≤ 20 ∧ (∀ e, e ∈ c → EvcOk e) ∧ ∀ i a b, c[i]? = some a → c[i + 1]? = some b → a.2.2.2 ≤ b.2.2.2
/-- the stories in the component -/
def SsR (τ : HP) (rg : Nat → Nat) (sl : Nat) (cs : List (List (Nat × Nat × Nat × Nat))) : Prop :=
  ∃ d ls, LA τ sl d ls ∧ ls.length = cs.length ∧ rg sl = 3 ∧ rg d = 4 ∧ ∀ (i : Nat) (c : List (Nat × Nat × Nat × Nat)), cs[i]? = some c → ∃ l dd es, ls[i]? = some l ∧ EsR τ l dd es c ∧ rg l = 8 ∧ rg dd = 9
theorem SsR.ex {τ τ' : HP} {rg : Nat → Nat} {sl : Nat} {cs : List (List (Nat × Nat × Nat × Nat))} (h : SsR τ rg sl cs) (hx : Ex τ τ') : SsR τ' rg sl cs := by
  obtain ⟨d, ls, h1, h2, h3, h4, h5⟩ := h
  refine ⟨d, ls, h1.ex hx, h2, h3, h4, fun i c hc => ?_⟩
  obtain ⟨l, dd, es, a1, a2, a3⟩ := h5 i c hc
  exact ⟨l, dd, es, a1, a2.ex hx, a3⟩
/-- the stories in the model -/
def SsM (σ : MSt) (cs : List (List (Nat × Nat × Nat × Nat))) : Prop :=
  σ.1 24 = nI cs.length ∧ cs.length ≤ 4 ∧ ∀ (i : Nat) (c : List (Nat × Nat × Nat × Nat)), cs[i]? = some c → StoryOk c ∧ σ.2.1 25 i = nI c.length ∧ ∀ (k : Nat) (e : Nat × Nat × Nat × Nat), c[k]? = some e → RowIs (σ.2.2 26) (20 * i + k) e
/-- THE RELATION: the component's object x (and the law's long[1] at w) against the model's state σ -/
abbrev RS : Type := (Nat → Nat) × (Nat → Nat) × (Nat) × (Nat → Int32) × (Nat) × (Stt) × (List Stt) × (List (List (Nat × Nat × Nat × Nat))) × (Nat) × (Nat) × (Nat) × (Nat) × (Nat)
abbrev RS.rg (R : RS) : Nat → Nat := R.1
abbrev RS.tx (R : RS) : Nat → Nat := R.2.1
abbrev RS.td (R : RS) : Nat := R.2.2.1
abbrev RS.al (R : RS) : Nat → Int32 := R.2.2.2.1
abbrev RS.t (R : RS) : Nat := R.2.2.2.2.1
abbrev RS.S (R : RS) : Stt := R.2.2.2.2.2.1
abbrev RS.imgs (R : RS) : List Stt := R.2.2.2.2.2.2.1
abbrev RS.cs (R : RS) : List (List (Nat × Nat × Nat × Nat)) := R.2.2.2.2.2.2.2.1
abbrev RS.lw (R : RS) : Nat := R.2.2.2.2.2.2.2.2.1
abbrev RS.st (R : RS) : Nat := R.2.2.2.2.2.2.2.2.2.1
abbrev RS.tp (R : RS) : Nat := R.2.2.2.2.2.2.2.2.2.2.1
abbrev RS.sl (R : RS) : Nat := R.2.2.2.2.2.2.2.2.2.2.2.1
abbrev RS.im (R : RS) : Nat := R.2.2.2.2.2.2.2.2.2.2.2.2
/-- the model's half -/
def RM (R : RS) (σ : MSt) : Prop := Tp σ R.tx R.td ∧ MLaw σ R.al R.t R.S.nf ∧ SttOk R.S ∧ curM σ R.S ∧ (R.imgs.length ≤ 3 ∧ σ.1 31 = nI R.imgs.length) ∧
  (∀ (i : Nat) (S : Stt), R.imgs[i]? = some S → SttOk S ∧ imgM σ i S) ∧ SsM σ R.cs ∧ σ.1 41 = -1 ∧ σ.1 42 = -1 ∧ σ.1 45 = -1
/-- the component's half -/
def RC (R : RS) (lit : Nat → Nat) (x w : Nat) (lwv : LW) (cm : Nat → Int32) (cl fa : Int32) (τ : HP) : Prop :=
  τ.1 x = some (.inr (0, [.ref R.lw, .ref R.st, .int (nI R.td), .int fa, .int (nI R.imgs.length), .ref R.tp, .ref R.sl, .ref R.im])) ∧ TxR τ R.tp R.tx ∧
  (∃ B, LwR τ B R.lw lwv cm R.al (nI R.t) cl) ∧ StR τ R.rg 10 R.st R.S ∧
  (∃ fi, τ.1 R.im = some (.inl (3, 3, .inr (.inr (.inr (.inr fi))))) ∧ ∀ (i : Nat) (S : Stt), R.imgs[i]? = some S → ∃ s, fi i = some s ∧ StR τ R.rg (20 + 10 * i) s S) ∧
  SsR τ R.rg R.sl R.cs ∧ (∃ g, τ.1 w = some (.inl (4, 1, .inr (.inl g)))) ∧ Lits τ lit ∧ R.rg x = 0 ∧ R.rg R.tp = 1 ∧ R.rg R.im = 2 ∧ R.rg w = 5
def RR (lit : Nat → Nat) (x w : Nat) (τ : HP) (σ : MSt) : Prop := ∃ R : RS, RM R σ ∧ RC R lit x w (lwOf σ) (σ.2.1 14) (σ.1 8) (σ.1 3) τ
theorem LwR.ex {τ τ' : HP} {B lw : Nat} {w : LW} {cm al : Nat → Int32} {tk cl : Int32} (h : LwR τ B lw w cm al tk cl) (hx : Ex τ τ') : LwR τ' B lw w cm al tk cl := by
  obtain ⟨sh, ho, co, aa, fs, fh, fc, fa, b, h1, h2, h3, h4, h5, h6⟩ := h
  exact ⟨sh, ho, co, aa, fs, fh, fc, fa, b, hx _ _ h1, hx _ _ h2, hx _ _ h3, hx _ _ h4, hx _ _ h5, h6⟩
theorem LwR.wf {τ : HP} {B lw : Nat} {w : LW} {cm al : Nat → Int32} {tk cl : Int32} (h : LwR τ B lw w cm al tk cl) (hf : Wf τ) : LwR τ τ.2 lw w cm al tk cl := by
  obtain ⟨sh, ho, co, aa, fs, fh, fc, fa, b, h1, h2, h3, h4, h5, h6⟩ := h
  exact ⟨sh, ho, co, aa, fs, fh, fc, fa, ⟨hf _ _ h1, hf _ _ h2, hf _ _ h3, hf _ _ h4, hf _ _ h5⟩, h1, h2, h3, h4, h5, h6⟩
theorem LtR.ex {τ τ' : HP} {a : Nat} {L : List Nat} (h : LtR τ a L) (hx : Ex τ τ') : LtR τ' a L := by
  obtain ⟨la, rest, lg, l1, l2, l3⟩ := h
  exact ⟨la, rest, lg, hx _ _ l1, hx _ _ l2, l3⟩
theorem Lits.ex {τ τ' : HP} {lit : Nat → Nat} (h : Lits τ lit) (hx : Ex τ τ') : Lits τ' lit := by
  obtain ⟨h1, h2, h3, h4, h5, h6, h7, h8, h9, h10, h11, h12⟩ := h
  exact ⟨h1.ex hx, h2.ex hx, h3.ex hx, h4.ex hx, h5.ex hx, h6.ex hx, h7.ex hx, h8.ex hx, h9.ex hx, h10.ex hx, h11.ex hx, h12.ex hx⟩
theorem RC.ex {R : RS} {lit : Nat → Nat} {x w : Nat} {lwv : LW} {cm : Nat → Int32} {cl fa : Int32} {τ τ' : HP} (h : RC R lit x w lwv cm cl fa τ) (hx : Ex τ τ') : RC R lit x w lwv cm cl fa τ' := by
  obtain ⟨h1, ⟨f, h2, h3⟩, ⟨B, h4⟩, h5, ⟨fi, h6, h7⟩, h8, ⟨g, h9⟩, h10, h11⟩ := h
  refine ⟨hx _ _ h1, ⟨f, hx _ _ h2, h3⟩, ⟨B, h4.ex hx⟩, h5.ex hx, ⟨fi, hx _ _ h6, fun i S hS => ?_⟩, h8.ex hx, ⟨g, hx _ _ h9⟩, h10.ex hx, h11⟩
  obtain ⟨s, s1, s2⟩ := h7 i S hS
  exact ⟨s, s1, s2.ex hx⟩
/-- what the queries of the model may write -/
def mQ (σ σ' : MSt) : Prop := mE [0, 2, 4, 5, 6, 16, 17, 18, 19, 43, 44, 46, 47, 49] [21, 22, 23, 40] [20, 27, 39, 48] σ σ'
theorem RowIs.eq {g g' : Nat → Nat → Int32} {i : Nat} {c : Nat × Nat × Nat × Nat} (h : RowIs g i c) (e : g' = g) : RowIs g' i c := e ▸ h
theorem RM.Q {R : RS} {σ σ' : MSt} (h : RM R σ) (hE : mQ σ σ') : RM R σ' := by
  obtain ⟨⟨a1, a2, a3⟩, ⟨l1, l2, l3, l4, l5, l6, l7, l8⟩, h3, ⟨c1, c2, c3, c4, c5, c6⟩, ⟨n1, n2⟩, hi, ⟨s1, s2, s3⟩, p1, p2, p3⟩ := h
  have elw : lwOf σ' = lwOf σ := by
    unfold lwOf
    rw [hE.1 9 (by simp), hE.1 10 (by simp), hE.2.2 12 (by simp), hE.2.1 13 (by simp)]
  refine ⟨⟨by rw [hE.1 1 (by simp)]; exact a1, a2, by rw [hE.2.1 7 (by simp)]; exact a3⟩, ⟨by rw [hE.2.1 15 (by simp)]; exact l1, by rw [elw]; exact l2, by rw [hE.2.1 14 (by simp)]; exact l3, by rw [hE.1 11 (by simp)]; exact l4, l5, by rw [hE.1 28 (by simp)]; exact l6, l7, by rw [hE.2.2 32 (by simp)]; exact l8⟩, h3, ⟨by rw [hE.1 28 (by simp)]; exact c1, by rw [hE.2.2 32 (by simp)]; exact c2, by rw [hE.1 29 (by simp)]; exact c3, by rw [hE.2.1 33 (by simp)]; exact c4, by rw [hE.1 30 (by simp)]; exact c5, by rw [hE.2.2 34 (by simp)]; exact c6⟩, ⟨n1, by rw [hE.1 31 (by simp)]; exact n2⟩, fun i S hS => ?_, ⟨by rw [hE.1 24 (by simp)]; exact s1, s2, fun i c hc => ?_⟩, by rw [hE.1 41 (by simp)]; exact p1, by rw [hE.1 42 (by simp)]; exact p2, by rw [hE.1 45 (by simp)]; exact p3⟩
  · obtain ⟨k1, k2⟩ := hi i S hS
    unfold imgM at k2 ⊢
    rw [hE.2.2 38 (by simp), hE.2.2 35 (by simp), hE.2.2 36 (by simp), hE.2.2 37 (by simp)]
    exact ⟨k1, k2⟩
  · obtain ⟨k1, k2, k3⟩ := s3 i c hc
    refine ⟨k1, by rw [hE.2.1 25 (by simp)]; exact k2, fun k e he => ?_⟩
    rw [hE.2.2 26 (by simp)]
    exact k3 k e he
theorem mQ.lw {σ σ' : MSt} (hE : mQ σ σ') : lwOf σ' = lwOf σ ∧ σ'.2.1 14 = σ.2.1 14 ∧ σ'.1 8 = σ.1 8 ∧ σ'.1 3 = σ.1 3 := by
  refine ⟨?_, hE.2.1 14 (by simp), hE.1 8 (by simp), hE.1 3 (by simp)⟩
  unfold lwOf
  rw [hE.1 9 (by simp), hE.1 10 (by simp), hE.2.2 12 (by simp), hE.2.1 13 (by simp)]
/-- a query: old cells stand, the model writes but scratch -/
theorem RR.q {lit : Nat → Nat} {x w : Nat} {τ τ' : HP} {σ σ' : MSt} (h : RR lit x w τ σ) (hx : Ex τ τ') (hE : mQ σ σ') : RR lit x w τ' σ' := by
  obtain ⟨R, h1, h2⟩ := h
  obtain ⟨e1, e2, e3, e4⟩ := hE.lw
  exact ⟨R, h1.Q hE, by rw [e1, e2, e3, e4]; exact h2.ex hx⟩
theorem mQ.sF {σ : MSt} {v : Int32} : mQ σ (m_sF σ 0 v) := mE_sF (by simp)
theorem mQ.rfl {σ : MSt} : mQ σ σ := mE.rfl
theorem mQ.of {f a g : List Nat} {σ σ' : MSt} (h : mE f a g σ σ') (hf : ∀ k, k ∈ f → k ∈ [0, 2, 4, 5, 6, 16, 17, 18, 19, 43, 44, 46, 47, 49]) (ha : ∀ k, k ∈ a → k ∈ [21, 22, 23, 40]) (hg : ∀ k, k ∈ g → k ∈ [20, 27, 39, 48]) : mQ σ σ' := h.wide hf ha hg
/-- the out cell is written -/
theorem RR.st {lit : Nat → Nat} {x w : Nat} {τ : HP} {σ : MSt} {g : Nat → Int64} (h : RR lit x w τ σ) : RR lit x w (hst τ w (.inl (4, 1, .inr (.inl g)))) σ := by
  obtain ⟨R, h1, h2, h3, ⟨B, h4⟩, h5, ⟨fi, h6, h7⟩, h8, ⟨g', h9⟩, h10, h11⟩ := h
  have hne : ∀ {q : Nat} {y : HC}, τ.1 q = some y → (∀ n z, y ≠ .inl (4, n, z)) → (hst τ w (.inl (4, 1, .inr (.inl g)))).1 q = some y := fun {q y} hq hy => (hst_ne (fun z => by
    rw [z, h9] at hq
    injection hq with hq
    exact hy _ _ hq.symm)).trans hq
  have exO : ∀ {q c : Nat} {fs : List Value}, τ.1 q = some (.inr (c, fs)) → (hst τ w (.inl (4, 1, .inr (.inl g)))).1 q = some (.inr (c, fs)) := fun hq => hne hq (fun n z e => by cases e)
  have exA : ∀ {q t n : Nat} {z : (Nat → Int32) ⊕ (Nat → Int64) ⊕ (Nat → UInt32) ⊕ (Nat → UInt64) ⊕ (Nat → Option Nat)}, τ.1 q = some (.inl (t, n, z)) → t ≠ 4 → (hst τ w (.inl (4, 1, .inr (.inl g)))).1 q = some (.inl (t, n, z)) := fun hq ht => hne hq (fun n z e => by
    injection e with e
    exact ht (congrArg Prod.fst e))
  have exL : ∀ {l d : Nat} {es : List Nat}, LA τ l d es → LA (hst τ w (.inl (4, 1, .inr (.inl g)))) l d es := fun h => by
    obtain ⟨mc, cap, f, h1, h2, h3⟩ := h
    exact ⟨mc, cap, f, exO h1, exA h2 (by omega), h3⟩
  have exS : ∀ {b s : Nat} {S : Stt}, StR τ R.rg b s S → StR (hst τ w (.inl (4, 1, .inr (.inl g)))) R.rg b s S := fun h => by
    obtain ⟨fl, d1, fs, hl, d2, hs, sa, g, h1, ⟨h2, h3, h4⟩, ⟨h5, h6, h7⟩, ⟨h8, h9⟩, h10⟩ := h
    refine ⟨fl, d1, fs, hl, d2, hs, sa, g, exO h1, ⟨exL h2, h3, fun f hf => ?_⟩, ⟨exL h5, h6, fun k hk => ?_⟩, ⟨exA h8 (by omega), h9⟩, h10⟩
    · obtain ⟨a, a1, a2⟩ := h4 f hf
      exact ⟨a, a1, exO a2⟩
    · obtain ⟨a, a1, a2⟩ := h7 k hk
      exact ⟨a, a1, exO a2⟩
  have exT : ∀ {a : Nat} {L : List Nat}, LtR τ a L → LtR (hst τ w (.inl (4, 1, .inr (.inl g)))) a L := fun h => by
    obtain ⟨la, rest, lg, l1, l2, l3⟩ := h
    exact ⟨la, rest, lg, exO l1, exA l2 (by omega), l3⟩
  refine ⟨R, h1, exO h2, ?_, ⟨B, ?_⟩, exS h5, ⟨fi, exA h6 (by omega), fun i S hS => ?_⟩, ?_, ⟨g, hst_eq⟩, ?_, h11⟩
  · obtain ⟨f, t1, t2⟩ := h3
    exact ⟨f, exA t1 (by omega), t2⟩
  · obtain ⟨sh, ho, co, aa, fs, fh, fc, fa, b, k1, k2, k3, k4, k5, k6⟩ := h4
    exact ⟨sh, ho, co, aa, fs, fh, fc, fa, b, exO k1, exA k2 (by omega), exA k3 (by omega), exA k4 (by omega), exA k5 (by omega), k6⟩
  · obtain ⟨s, s1, s2⟩ := h7 i S hS
    exact ⟨s, s1, exS s2⟩
  · obtain ⟨d, ls, k1, k2, k3, k4, k5⟩ := h8
    refine ⟨d, ls, exL k1, k2, k3, k4, fun i c hc => ?_⟩
    obtain ⟨l, dd, es, a1, ⟨b1, b2, b3⟩, a3⟩ := k5 i c hc
    refine ⟨l, dd, es, a1, ⟨exL b1, b2, fun i c hc => ?_⟩, a3⟩
    obtain ⟨a, a1, c', y, a2, a3⟩ := b3 i c hc
    exact ⟨a, a1, c', y, exO a2, a3⟩
  · obtain ⟨h1, h2, h3, h4, h5, h6, h7, h8, h9, h10, h11, h12⟩ := h10
    exact ⟨exT h1, exT h2, exT h3, exT h4, exT h5, exT h6, exT h7, exT h8, exT h9, exT h10, exT h11, exT h12⟩
/-! THE PLAIN LAW, 27: an operation's outcome on both sides; the law's wrappers -/
set_option maxRecDepth 100000
/-- what a wrapper and its twin come to -/
def OpR (lit : Nat → Nat) (x w : Nat) (M : Option (Int32 × MSt)) (r : Int32 × HH) : Prop := ∃ v σ', M = some (v, σ') ∧ σ'.1 0 = r.1 ∧ (r.1 = 0 → ∃ g, r.2 w = some (.inl (4, 1, .inr (.inl g))) ∧ g 0 = Int32.toInt64 v) ∧ ∀ n, RR lit x w (r.2, n) σ'
def QH (lit : Nat → Nat) (x w : Nat) (cd : Nat → Int32) (M : Option (Int32 × MSt)) (out : (Int32 × HP) ⊕ (Nat × Nat × HP)) : Prop := match out with
  | .inl o => ∃ σ', M = some (o.1, σ') ∧ σ'.1 0 = 0 ∧ RR lit x w o.2 σ'
  | .inr e => cd e.1 ≠ 0 ∧ ∃ v σ', M = some (v, σ') ∧ σ'.1 0 = cd e.1 ∧ RR lit x w e.2.2 σ'
def QV (lit : Nat → Nat) (x w : Nat) (cd : Nat → Int32) (τ : HP) (M : Option (Int32 × MSt)) (out : Int32 ⊕ (Nat × Nat × HP)) : Prop := match out with
  | .inl o => ∃ σ', M = some (o, σ') ∧ σ'.1 0 = 0 ∧ RR lit x w τ σ'
  | .inr e => cd e.1 ≠ 0 ∧ ∃ v σ', M = some (v, σ') ∧ σ'.1 0 = cd e.1 ∧ RR lit x w e.2.2 σ'
theorem RR.any {lit : Nat → Nat} {x w n : Nat} {τ : HP} {σ : MSt} (h : RR lit x w τ σ) : RR lit x w (τ.1, n) σ := h.q (fun _ _ z => z) mQ.rfl
theorem RR.w {lit : Nat → Nat} {x w : Nat} {τ : HP} {σ : MSt} (h : RR lit x w τ σ) : ∃ g, τ.1 w = some (.inl (4, 1, .inr (.inl g))) := by
  obtain ⟨R, h1, h2⟩ := h
  exact h2.2.2.2.2.2.2.1
theorem RR.cl {lit : Nat → Nat} {x w : Nat} {τ : HP} {σ : MSt} (h : RR lit x w τ σ) : hcl τ x = some 0 := by
  obtain ⟨R, h1, h2⟩ := h
  exact hcl_of h2.1
/-- the answer is written -/
theorem put_w {lit : Nat → Nat} {x w : Nat} {τ : HP} {σ : MSt} {v : Int32} {M : Option (Int32 × MSt)} (h : RR lit x w τ σ) (hM : M = some (v, σ)) (h0 : σ.1 0 = 0) :
    wp (wt_bd (haL τ w 4) fun z5 => wt_ck (vp_in (0 : Int32) z5.1) <| wt_lt (hst τ w (.inl (4, z5.1, .inr (.inl (vp_updL z5.2 (0 : Int32).toNatClampNeg (Int32.toInt64 v)))))) fun τ8 => some ((0 : Int32), τ8.1)) (OpR lit x w M) := by
  obtain ⟨g, hg⟩ := h.w
  rw [haL_of hg, wt_bd_s, wt_ck_t (show vp_in (0 : Int32) 1 by rw [vp_0]; omega), wp_lt, wp_some, c_0]
  exact ⟨v, σ, hM, h0, fun _ => ⟨_, hst_eq, if_pos rfl⟩, fun n => (h.st (g := vp_updL g 0 (Int32.toInt64 v))).any⟩
theorem wrapH {lit : Nat → Nat} {x w : Nat} {τ : HP} {cd : Nat → Int32} {M : Option (Int32 × MSt)} {X : Option ((Int32 × HP) ⊕ (Nat × Nat × HP))} {E : (Nat × Nat × HP) → Option (Int32 × HH)} (h : wp X (QH lit x w cd M)) (hc : hcl τ x = some 0) (hE : ∀ e, cd e.1 ≠ 0 → E e = some (cd e.1, e.2.2.1)) :
    wp (wt_ck (hcl τ x = some 0) <| wt_bd X fun w2 => wt_rs w2 (fun o4 => wt_bd (haL o4.2 w 4) fun z5 => wt_ck (vp_in (0 : Int32) z5.1) <| wt_lt (hst o4.2 w (.inl (4, z5.1, .inr (.inl (vp_updL z5.2 (0 : Int32).toNatClampNeg (Int32.toInt64 o4.1)))))) fun τ8 => some ((0 : Int32), τ8.1)) E) (OpR lit x w M) := by
  rw [wt_ck_t hc]
  refine wp_ap h fun out hq => ?_
  cases out with
  | inl o =>
    obtain ⟨σ', e1, e2, e3⟩ := hq
    rw [rs_l]
    exact put_w e3 e1 e2
  | inr e =>
    obtain ⟨e0, v, σ', e1, e2, e3⟩ := hq
    rw [rs_r, hE e e0, wp_some]
    exact ⟨v, σ', e1, e2, fun z => absurd z e0, fun n => e3.any⟩
theorem wrapV {lit : Nat → Nat} {x w : Nat} {τ : HP} {cd : Nat → Int32} {M : Option (Int32 × MSt)} {X : Option (Int32 ⊕ (Nat × Nat × HP))} {E : (Nat × Nat × HP) → Option (Int32 × HH)} (h : wp X (QV lit x w cd τ M)) (hc : hcl τ x = some 0) (hE : ∀ e, cd e.1 ≠ 0 → E e = some (cd e.1, e.2.2.1)) :
    wp (wt_ck (hcl τ x = some 0) <| wt_bd X fun w2 => wt_rs w2 (fun o4 => wt_bd (haL τ w 4) fun z5 => wt_ck (vp_in (0 : Int32) z5.1) <| wt_lt (hst τ w (.inl (4, z5.1, .inr (.inl (vp_updL z5.2 (0 : Int32).toNatClampNeg (Int32.toInt64 o4)))))) fun τ8 => some ((0 : Int32), τ8.1)) E) (OpR lit x w M) := by
  rw [wt_ck_t hc]
  refine wp_ap h fun out hq => ?_
  cases out with
  | inl o =>
    obtain ⟨σ', e1, e2, e3⟩ := hq
    rw [rs_l]
    exact put_w e3 e1 e2
  | inr e =>
    obtain ⟨e0, v, σ', e1, e2, e3⟩ := hq
    rw [rs_r, hE e e0, wp_some]
    exact ⟨v, σ', e1, e2, fun z => absurd z e0, fun n => e3.any⟩
/-! what may be thrown: 100 illegal argument, 101 no such story, 102 no such find or event -/
def cdA (c : Nat) : Int32 := if c = 100 then 1 else 0
def cdS (c : Nat) : Int32 := if c = 101 then 1 else 0
def cdF (c : Nat) : Int32 := if c = 102 then 1 else 0
def cdSA (c : Nat) : Int32 := if c = 101 then 1 else if c = 100 then 2 else 0
def cdFA (c : Nat) : Int32 := if c = 102 then 1 else if c = 100 then 2 else 0
def cdSF (c : Nat) : Int32 := if c = 101 then 1 else if c = 102 then 2 else 0
theorem one_h {c : Nat} {k : Nat} {e : Nat × Nat × HP} {cd : Nat → Int32} (hcd : cd = fun c => if c = k then 1 else 0) (h : cd e.1 ≠ 0) : (if e.1 = k then (some ((1 : Int32), e.2.2.1)) else (none : Option (Int32 × HH))) = some (cd e.1, e.2.2.1) := by
  subst hcd
  by_cases z : e.1 = k
  · rw [if_pos z]
    dsimp only
    rw [if_pos z]
  · exact absurd (if_neg z) h
theorem two_h {k j : Nat} {e : Nat × Nat × HP} {cd : Nat → Int32} (hcd : cd = fun c => if c = k then 1 else if c = j then 2 else 0) (h : cd e.1 ≠ 0) : (if e.1 = k then (some ((1 : Int32), e.2.2.1)) else (if e.1 = j then (some ((2 : Int32), e.2.2.1)) else (none : Option (Int32 × HH)))) = some (cd e.1, e.2.2.1) := by
  subst hcd
  by_cases z : e.1 = k
  · rw [if_pos z]
    dsimp only
    rw [if_pos z]
  · by_cases z2 : e.1 = j
    · rw [if_neg z, if_pos z2]
      dsimp only
      rw [if_neg z, if_pos z2]
    · exact absurd (show (if e.1 = k then (1 : Int32) else if e.1 = j then 2 else 0) = 0 by rw [if_neg z, if_neg z2]) h
/-- an argument in 0..n, or not -/
theorem rng (a : Int32) (n : Nat) (hn : n < 2 ^ 31 - 1) : (∃ k, k ≤ n ∧ a = nI k ∧ ¬ a < 0 ∧ ¬ nI (n + 1) ≤ a ∧ ¬ nI n < a ∧ mIn a 0 (nI n) = 1) ∨ (mIn a 0 (nI n) = 0 ∧ (a < 0 ∨ (¬ a < 0 ∧ nI (n + 1) ≤ a ∧ nI n < a))) := by
  by_cases h0 : a < 0
  · refine Or.inr ⟨?_, Or.inl h0⟩
    unfold mIn
    rw [if_pos h0]
  · obtain ⟨k, hk, e⟩ := nI_of h0
    subst e
    by_cases h1 : k ≤ n
    · refine Or.inl ⟨k, h1, rfl, h0, ?_, ?_, ?_⟩
      · rw [nI_leI (by omega) hk]; omega
      · rw [nI_ltI (by omega) hk]; omega
      · unfold mIn
        rw [if_neg h0, if_neg (by rw [nI_ltI (by omega) hk]; omega)]
    · refine Or.inr ⟨?_, Or.inr ⟨h0, ?_, ?_⟩⟩
      · unfold mIn
        rw [if_neg h0, if_pos (by rw [nI_ltI (by omega) hk]; omega)]
      · rw [nI_leI (by omega) hk]; omega
      · rw [nI_ltI (by omega) hk]; omega
theorem isSort_e {a : Int32} : (∃ k, k < 10 ∧ a = nI k ∧ mIn a 0 9 = 1 ∧ eX1_isSort a = some 1) ∨ (mIn a 0 9 = 0 ∧ eX1_isSort a = some 0) := by
  rcases rng a 9 (by omega) with ⟨k, h1, h2, h3, h4, h5, h6⟩ | ⟨h1, h2 | ⟨h2, h3, h4⟩⟩
  · refine Or.inl ⟨k, by omega, h2, h6, ?_⟩
    unfold eX1_isSort
    rw [if_neg h3, if_neg (show ¬ (10 : Int32) ≤ a from h4)]
  · refine Or.inr ⟨h1, ?_⟩
    unfold eX1_isSort
    rw [if_pos h2]
  · refine Or.inr ⟨h1, ?_⟩
    unfold eX1_isSort
    rw [if_neg h2, if_pos (show (10 : Int32) ≤ a from h3)]
/-! the law's garments and sorts -/
theorem RR.s0 {lit : Nat → Nat} {x w : Nat} {τ : HP} {σ : MSt} (h : RR lit x w τ σ) : RR lit x w τ (m_sF σ 0 0) ∧ (m_sF σ 0 0).1 0 = 0 := ⟨h.q Ex.rfl mQ.sF, by rw [sF_1, if_pos rfl]⟩
theorem RR.s1 {lit : Nat → Nat} {x w : Nat} {τ : HP} {σ : MSt} {v : Int32} (h : RR lit x w τ σ) : RR lit x w τ (m_sF σ 0 v) ∧ (m_sF σ 0 v).1 0 = v := ⟨h.q Ex.rfl mQ.sF, by rw [sF_1, if_pos rfl]⟩
theorem op_sheds {lit : Nat → Nat} {x w : Nat} {τ : HP} {σ : MSt} (h : RR lit x w τ σ) (a b : Int32) : wp (eX1_sheds τ x a b) (QV lit x w cdA τ (dX4_sheds σ a b)) := by
  obtain ⟨g1, g2⟩ := h.s0
  have bad : ∀ s, (∃ v σ', s = some (v, σ') ∧ σ'.1 0 = 1 ∧ RR lit x w τ σ') → wp (wt_bd (eX1_need τ (0 : Int32)) fun w20 => wt_rs w20 (fun o22 => wt_bd (hgA τ x [0] 0) fun ad23 => wt_bd (hgA τ ad23 [1] 0) fun ad25 => wt_bd (haI τ ad25 0) fun z27 => wt_ck (vp_in (((10 : Int32) * a) + b) z27.1) <| some (.inl (z27.2 (((10 : Int32) * a) + b).toNatClampNeg) : Int32 ⊕ (Nat × Nat × HP))) (fun x_ => some (.inr x_))) (QV lit x w cdA τ s) := by
    rintro s ⟨v, σ', z1, z2, z3⟩
    unfold eX1_need
    rw [if_pos rfl, wt_bd_s, rs_r, wp_some]
    exact ⟨show (1 : Int32) ≠ 0 by decide, v, σ', z1, z2, z3⟩
  have mbad : dX4_bad (m_sF σ 0 0) (1 : Int32) (1 : Int32) = some (1, m_sF (m_sF σ 0 0) 0 1) := bad_1 g2 (by decide)
  unfold eX1_sheds dX4_sheds
  rw [wp_lt_id, in_e, wt_bd_s, mbad, wt_bd_s]
  dsimp only
  rcases rng a 7 (by omega) with ⟨k, h1, h2, h3, h4, h5, h6⟩ | ⟨h1, h2⟩
  · rw [if_neg h3, if_neg (show ¬ (8 : Int32) ≤ a from h4), show mIn a 0 7 = 1 from h6, if_neg (by decide), in_e, wt_bd_s]
    rcases isSort_e (a := b) with ⟨j, j1, j2, j3, j4⟩ | ⟨j1, j2⟩
    · subst h2 j2
      have g1' := g1
      obtain ⟨R, r1, r2⟩ := g1'
      obtain ⟨q1, -, ⟨B, sh, ho, co, aa, fs, fh, fc, fa, -, l1, l2, -, -, -, l3, -⟩, -⟩ := r2
      rw [j3, if_neg (by decide), bad_0 g2, wt_bd_s, j4, wt_bd_s, if_neg (by decide)]
      unfold eX1_need
      dsimp only
      rw [if_neg (by decide), wt_bd_s, rs_l, hgA_of (cs := [0]) (k := 0) q1 rfl rfl, wt_bd_s, hgA_of (cs := [1]) (k := 0) l1 rfl rfl, wt_bd_s, haI_of l2, wt_bd_s, i10, wt_ck_t (by rw [vp_nI (by omega)]; show _ < 80; omega), nI_clamp (by omega), wt_bd_s, rs_r, wp_some, if_pos rfl, wt_ck_t (show vp_in (nI k) 8 by rw [vp_nI (by omega)]; omega), wt_ck_t (show vp_in (nI j) 10 by rw [vp_nI (by omega)]; exact j1), nI_clamp (by omega), nI_clamp (by omega), wt_bd_s, rs_r]
      exact ⟨_, congrArg (fun z => some (z, m_sF σ 0 0)) (l3 k j (by omega) j1).symm, g2, g1⟩
    · rw [j1, if_pos rfl, j2, wt_bd_s, if_pos rfl, wt_bd_s, rs_l, wt_bd_s, rs_l]
      refine bad _ ⟨0, _, ?_, g1.s1.2, g1.s1.1⟩
      rw [if_neg (by decide)]
  · have ec : ∀ y : Option (Unit ⊕ (Int32 ⊕ (Nat × Nat × HP))), (if a < 0 then (some (.inl ())) else (if (8 : Int32) ≤ a then (some (.inl ())) else y)) = some (.inl ()) := fun y => by
      rcases h2 with h2 | ⟨h2, h3, -⟩
      · rw [if_pos h2]
      · rw [if_neg h2, if_pos (show (8 : Int32) ≤ a from h3)]
    rw [show mIn a 0 7 = 0 from h1, if_pos rfl, ec, wt_bd_s, rs_l, wt_bd_s, rs_l]
    refine bad _ ⟨0, _, ?_, g1.s1.2, g1.s1.1⟩
    rw [if_neg (by decide)]
theorem w_sheds {lit : Nat → Nat} {x w : Nat} {τ : HP} {σ : MSt} (h : RR lit x w τ σ) (a b : Int32) : wp (eX0_sheds τ x a b w) (OpR lit x w (dX4_sheds σ a b)) := wrapV (op_sheds h a b) h.cl fun e he => one_h (c := 0) (k := 100) rfl he
/-! THE PLAIN LAW, 28: sorts that are alike; a story's run is made -/
set_option maxRecDepth 100000
theorem op_alike {lit : Nat → Nat} {x w : Nat} {τ : HP} {σ : MSt} (h : RR lit x w τ σ) (a : Int32) : wp (eX1_alike τ x a) (QV lit x w cdA τ (dX4_alike σ a)) := by
  obtain ⟨g1, g2⟩ := h.s0
  unfold eX1_alike dX4_alike
  rw [wp_lt_id, in_e, wt_bd_s]
  rcases isSort_e (a := a) with ⟨j, j1, j2, j3, j4⟩ | ⟨j1, j2⟩
  · subst j2
    have g1' := g1
    obtain ⟨R, r1, r2⟩ := g1'
    obtain ⟨q1, -, ⟨B, sh, ho, co, aa, fs, fh, fc, fa, -, l1, -, -, -, l5, -, -, -, l6⟩, -⟩ := r2
    rw [j3, if_neg (by decide), wt_bd_s, bad_0 g2, wt_bd_s, j4, wt_bd_s]
    unfold eX1_need
    dsimp only
    rw [if_neg (by decide), wt_bd_s, rs_l, if_pos rfl, alike_e r1.2.1.1 j1, wt_bd_s, hgA_of (cs := [0]) (k := 0) q1 rfl rfl, wt_bd_s, hgA_of (cs := [1]) (k := 3) l1 rfl rfl, wt_bd_s, haI_of l5, wt_bd_s, wt_ck_t (by rw [vp_nI (by omega)]; exact j1), nI_clamp (by omega), wp_some]
    exact ⟨_, congrArg (fun z => some (z, m_sF σ 0 0)) (l6 j j1).symm, g2, g1⟩
  · rw [j1, if_pos rfl, wt_bd_s, bad_1 g2 (by decide), wt_bd_s, j2, wt_bd_s]
    unfold eX1_need
    dsimp only
    rw [if_pos rfl, wt_bd_s, rs_r, wp_some, if_neg (by decide)]
    exact ⟨show (1 : Int32) ≠ 0 by decide, 0, _, rfl, g1.s1.2, g1.s1.1⟩
theorem w_alike {lit : Nat → Nat} {x w : Nat} {τ : HP} {σ : MSt} (h : RR lit x w τ σ) (a : Int32) : wp (eX0_alike τ x a w) (OpR lit x w (dX4_alike σ a)) := wrapV (op_alike h a) h.cl fun e he => one_h (c := 0) (k := 100) rfl he
/-- an argument below n, or not -/
theorem rngS (a : Int32) (n : Nat) (hn : n ≤ 40) : (∃ k, k < n ∧ a = nI k ∧ ¬ a < 0 ∧ a < nI n ∧ mIn a 0 (nI n - 1) = 1) ∨ (mIn a 0 (nI n - 1) = 0 ∧ (a < 0 ∨ (¬ a < 0 ∧ ¬ a < nI n))) := by
  by_cases h0 : a < 0
  · refine Or.inr ⟨?_, Or.inl h0⟩
    unfold mIn
    rw [if_pos h0]
  · obtain ⟨k, hk, e⟩ := nI_of h0
    subst e
    by_cases h1 : k < n
    · refine Or.inl ⟨k, h1, rfl, h0, nI_lt h1 (by omega), ?_⟩
      unfold mIn
      rw [if_neg h0, nI_sub1 (by omega), if_neg (by rw [nI_ltI (by omega) hk]; omega)]
    · refine Or.inr ⟨?_, Or.inr ⟨h0, nI_nlt (by omega) hk⟩⟩
      unfold mIn
      rw [if_neg h0]
      by_cases z : n = 0
      · rw [z, if_pos (show nI 0 - 1 < nI k by rw [show nI 0 - 1 = (-1 : Int32) from by decide, i_lt, nI_toInt hk, show (-1 : Int32).toInt = -1 from by decide]; omega)]
      · rw [nI_sub1 (by omega), if_pos (by rw [nI_ltI (by omega) hk]; omega)]
theorem kpF_m1 {lo s t s' t' : Int32} {ev : Nat → Nat → Int32} {k : Nat} : kpF lo (-1) s t ev k = kpF lo (-1) s' t' ev k := by
  unfold kpF
  simp
/-- an event's row is in order -/
theorem EvOk_row {g : Nat → Nat → Int32} {i : Nat} {c : Nat × Nat × Nat × Nat} (h : RowIs g i c) (hc : EvcOk c) : EvOk (g i) := by
  obtain ⟨h0, h1, h2, h3⟩ := h
  obtain ⟨c1, c2, c3, c4, c5, c6⟩ := hc
  refine ⟨⟨c.2.1, by omega, h1⟩, ?_, ⟨c.2.2.2, by omega, h3⟩⟩
  rw [h0]
  have hk : c.1 = 0 ∨ c.1 = 1 ∨ c.1 = 2 ∨ c.1 = 3 ∨ c.1 = 4 := by omega
  rcases hk with k | k | k | k | k
  · exact Or.inl ⟨by rw [k]; rfl, c.2.2.1, by have := c3 k; omega, h2⟩
  · exact Or.inr (Or.inl (by rw [k]; rfl))
  · exact Or.inr (Or.inr (Or.inl ⟨by rw [k]; rfl, c.2.2.1, by have := c4 k; omega, h2⟩))
  · exact Or.inr (Or.inr (Or.inr (Or.inl (by rw [k]; rfl))))
  · exact Or.inr (Or.inr (Or.inr (Or.inr ⟨by rw [k]; rfl, c.2.2.1, by have := c5 k; omega, h2⟩)))
theorem EvR_row {τ : HP} {a : Nat} {g : Nat → Nat → Int32} {i : Nat} {c : Nat × Nat × Nat × Nat} (h : EvR τ a (evF c)) (hr : RowIs g i c) : EvR τ a (g i) := by
  obtain ⟨h0, h1, h2, h3⟩ := hr
  obtain ⟨cl, y, a1, a2⟩ := h
  refine ⟨cl, y, ?_, ?_⟩
  · rw [h1, h3]
    exact a1
  · rw [h0, h2]
    exact a2
/-- the model's run of the story i -/
theorem runIn_c {R : RS} {σ : MSt} {i : Nat} {c : List (Nat × Nat × Nat × Nat)} (h : RM R σ) (hc : R.cs[i]? = some c) : RunIn σ i c.length (kpF (-1) (-1) 0 0 (fun k => σ.2.2 26 (20 * i + k))) none := by
  obtain ⟨-, -, -, -, -, -, ⟨s1, s2, s3⟩, p1, p2, p3⟩ := h
  obtain ⟨⟨k1, k2, k3⟩, k4, k5⟩ := s3 i c hc
  have hi : i < R.cs.length := by
    rcases Nat.lt_or_ge i R.cs.length with z | z
    · exact z
    · rw [List.getElem?_eq_none z] at hc; cases hc
  refine ⟨by omega, k1, k4, fun k hk => ?_, fun k hk => ?_, Or.inl ⟨rfl, p2⟩⟩
  · exact EvOk_row (k5 k _ (List.getElem?_eq_getElem hk)) (k2 _ (List.getElem_mem hk))
  · rw [comes_e, p1, p3, kpF_m1 (s' := 0) (t' := 0)]
/-- the component's run of the story i -/
theorem run_c {R : RS} {lit : Nat → Nat} {x w i : Nat} {τ : HP} {σ : MSt} {cl fa : Int32} {c : List (Nat × Nat × Nat × Nat)} (hf : Wf τ) (hM : RM R σ) (hC : RC R lit x w (lwOf σ) (σ.2.1 14) cl fa τ) (hc : R.cs[i]? = some c) :
    ∃ τ' l, eX1_run τ x (nI i) = some (.inl (τ.2, τ')) ∧ Fr [] τ τ' ∧ RnC τ' τ.2 τ.2 l x R.lw c.length (lwOf σ) (σ.2.1 14) R.al (nI R.t) cl (fun k => σ.2.2 26 (20 * i + k)) (-1) (-1) 0 0 none := by
  obtain ⟨q1, -, ⟨B, qL⟩, -, -, ⟨d, ls, s1, s2, -, -, s5⟩, -⟩ := hC
  have hM' := hM
  obtain ⟨-, ⟨-, hLw, hcm, -⟩, -, -, -, -, ⟨-, m2, m3⟩, -⟩ := hM'
  obtain ⟨l, dd, es, e1, e2, -, -⟩ := s5 i c hc
  obtain ⟨⟨k1, k2, k3⟩, k4, k5⟩ := m3 i c hc
  have hi : i < R.cs.length := by
    rcases Nat.lt_or_ge i R.cs.length with z | z
    · exact z
    · rw [List.getElem?_eq_none z] at hc; cases hc
  have hx := hf x _ q1
  have n1 : (hnew τ (.inr (8, [.null, .int 0, .null, .int 0, .int 0, .int 0, .null]))).1 τ.2 = some (.inr (8, [.null, .int 0, .null, .int 0, .int 0, .int 0, .null])) := hnew_eq
  have F1 : Fr [] τ (hnew τ (.inr (8, [.null, .int 0, .null, .int 0, .int 0, .int 0, .null]))) := Fr.new
  have q1' := F1.at hf q1 (by simp)
  have s1' : LA (hnew τ (.inr (8, [.null, .int 0, .null, .int 0, .int 0, .int 0, .null]))) R.sl d ls := s1.ex (F1.ex hf)
  have e2' : EsR (hnew τ (.inr (8, [.null, .int 0, .null, .int 0, .int 0, .int 0, .null]))) l dd es c := e2.ex (F1.ex hf)
  have hlen := s1.len
  unfold eX1_run
  rw [if_neg (nI_pos (by omega)), hgA_of (cs := [0]) (k := 6) q1 rfl rfl, wt_bd_s, wt_ck_t s1.cl, jsize s1, wt_bd_s, if_pos (nI_lt (by omega) (by omega)), wp_lt_id, hgA_of (cs := [0]) (k := 6) q1' rfl rfl, wt_bd_s, wt_ck_t s1'.cl, jget s1' e1, wt_bd_s, wt_ck_t e2'.1.cl]
  generalize hnew τ (.inr (8, [.null, .int 0, .null, .int 0, .int 0, .int 0, .null])) = t1 at n1 F1 q1' s1' e2' ⊢
  unfold eX11_init
  rw [hp_of (cs := [8]) (k := 6) n1 rfl (by omega) (by simp), wt_bd_s, hp_of (cs := [8]) (k := 1) hst_eq rfl (by omega) (by simp), wt_bd_s, hst_hst, hp_of (cs := [8]) (k := 3) hst_eq rfl (by omega) (by simp), wt_bd_s, hst_hst, hp_of (cs := [8]) (k := 0) hst_eq rfl (by omega) (by simp), wt_bd_s, hst_hst, wt_bd_s, wt_bd_s, rs_r]
  have F2 : Fr [] τ (hst t1 τ.2 (.inr (8, [.ref l, .int (-1), .null, .int (-1), .int 0, .int 0, .ref x]))) := F1.then (Fr.st (W := [τ.2]) n1 (by simp)) fun q hq => Or.inr (by
    have : q = τ.2 := by simpa using hq
    omega)
  have r2 : (hst t1 τ.2 (.inr (8, [.ref l, .int (-1), .null, .int (-1), .int 0, .int 0, .ref x]))).1 τ.2 = some (.inr (8, [.ref l, .int (-1), .null, .int (-1), .int 0, .int 0, .ref x])) := hst_eq
  refine ⟨hst t1 τ.2 (.inr (8, [.ref l, .int (-1), .null, .int (-1), .int 0, .int 0, .ref x])), l, rfl, F2, .null, fun t hF => ?_, F2.2.1, k1, fun k hk => ?_, hLw, hcm⟩
  · have hf2 := F2.1 hf
    have FT : Fr [] τ t := F2.trans hF
    have hX := FT.ex hf
    refine ⟨((qL.wf hf).ex hX), ⟨dd, es, e2.1.ex hX, e2.2.1, ?_, ?_, fun k hk => ?_⟩, hF.at hf2 r2 (by simp), rfl, _, hX _ _ q1, rfl⟩
    · obtain ⟨mc, cap, f, l1, -⟩ := e2.1
      exact hf _ _ l1
    · obtain ⟨mc, cap, f, -, l2, -⟩ := e2.1
      exact hf _ _ l2
    · obtain ⟨a, a1, a2⟩ := (e2.ex hX).2.2 k _ (List.getElem?_eq_getElem hk)
      obtain ⟨a', b1, ca, ya, b2, b3⟩ := e2.2.2 k _ (List.getElem?_eq_getElem hk)
      rw [a1] at b1
      cases b1
      exact ⟨a, a1, hf _ _ b2, EvR_row a2 (k5 k _ (List.getElem?_eq_getElem hk))⟩
  · exact EvOk_row (k5 k _ (List.getElem?_eq_getElem hk)) (k2 _ (List.getElem_mem hk))
theorem run_n {R : RS} {lit : Nat → Nat} {x w : Nat} {τ : HP} {lwv : LW} {cm : Nat → Int32} {cl fa a : Int32} (hC : RC R lit x w lwv cm cl fa τ) (ha : a < 0 ∨ (¬ a < 0 ∧ ¬ a < nI R.cs.length)) : eX1_run τ x a = some (.inr (101, 0, τ)) := by
  obtain ⟨q1, -, -, -, -, ⟨d, ls, s1, s2, -, -, s5⟩, -⟩ := hC
  unfold eX1_run
  rcases ha with h | ⟨h, h2⟩
  · rw [if_pos h, wt_bd_s, rs_l]
  · rw [if_neg h, hgA_of (cs := [0]) (k := 6) q1 rfl rfl, wt_bd_s, wt_ck_t s1.cl, jsize s1, wt_bd_s, s2, if_neg h2, wt_bd_s, rs_l]
