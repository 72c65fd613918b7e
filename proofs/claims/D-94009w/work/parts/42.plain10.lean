/-! THE PLAIN LAW, 32: the law op -/
set_option maxRecDepth 100000
/-- the object's own cell is written; the law it points to may be another one -/
theorem RC.xs {R : RS} {lit : Nat → Nat} {x w lw' td' : Nat} {lwv lwv' : LW} {cm cm' al' : Nat → Int32} {cl cl' fa fa' : Int32} {t' : Nat} {τ : HP} (h : RC R lit x w lwv cm cl fa τ) (hL : ∃ B, LwR τ B lw' lwv' cm' al' (nI t') cl') :
    RC (R.rg, R.tx, td', al', t', R.S, R.imgs, R.cs, lw', R.st, R.tp, R.sl, R.im) lit x w lwv' cm' cl' fa' (hst τ x (.inr (0, [.ref lw', .ref R.st, .int (nI td'), .int fa', .int (nI R.imgs.length), .ref R.tp, .ref R.sl, .ref R.im]))) := by
  obtain ⟨h2, h3, -, h5, ⟨fi, h6, h7⟩, h8, ⟨g', h9⟩, h10, h11⟩ := h
  obtain ⟨B, h4⟩ := hL
  generalize hc : (Sum.inr (0, [Value.ref lw', .ref R.st, .int (nI td'), .int fa', .int (nI R.imgs.length), .ref R.tp, .ref R.sl, .ref R.im]) : HC) = ce
  have hne : ∀ {q : Nat} {y : HC}, τ.1 q = some y → (∀ z, y ≠ .inr (0, z)) → (hst τ x ce).1 q = some y := fun {q y} hq hy => (hst_ne (fun z => by
    rw [z, h2] at hq
    injection hq with hq
    exact hy _ hq.symm)).trans hq
  have exO : ∀ {q c : Nat} {fs : List Value}, τ.1 q = some (.inr (c, fs)) → c ≠ 0 → (hst τ x ce).1 q = some (.inr (c, fs)) := fun hq h0 => hne hq (fun z e => by
    injection e with e
    exact h0 (congrArg Prod.fst e))
  have exA : ∀ {q : Nat} {z : Nat × Nat × ((Nat → Int32) ⊕ (Nat → Int64) ⊕ (Nat → UInt32) ⊕ (Nat → UInt64) ⊕ (Nat → Option Nat))}, τ.1 q = some (.inl z) → (hst τ x ce).1 q = some (.inl z) := fun hq => hne hq (fun z e => by cases e)
  have exL : ∀ {l d : Nat} {es : List Nat}, LA τ l d es → LA (hst τ x ce) l d es := fun h => by
    obtain ⟨mc, cap, f, h1, h2, h3⟩ := h
    exact ⟨mc, cap, f, exO h1 (by omega), exA h2, h3⟩
  have exS : ∀ {b s : Nat} {S : Stt}, StR τ R.rg b s S → StR (hst τ x ce) R.rg b s S := fun h => by
    obtain ⟨fl, d1, fs, hl, d2, hs, sa, g, h1, ⟨h2, h3, h4⟩, ⟨h5, h6, h7⟩, ⟨h8, h9⟩, h10⟩ := h
    refine ⟨fl, d1, fs, hl, d2, hs, sa, g, exO h1 (by omega), ⟨exL h2, h3, fun f hf => ?_⟩, ⟨exL h5, h6, fun k hk => ?_⟩, ⟨exA h8, h9⟩, h10⟩
    · obtain ⟨a, a1, a2⟩ := h4 f hf
      exact ⟨a, a1, exO a2 (by omega)⟩
    · obtain ⟨a, a1, a2⟩ := h7 k hk
      exact ⟨a, a1, exO a2 (by omega)⟩
  have exT : ∀ {a : Nat} {L : List Nat}, LtR τ a L → LtR (hst τ x ce) a L := fun h => by
    obtain ⟨la, rest, lg, l1, l2, l3⟩ := h
    exact ⟨la, rest, lg, exO l1 (by omega), exA l2, l3⟩
  refine ⟨?_, ?_, ⟨B, ?_⟩, exS h5, ⟨fi, exA h6, fun i S hS => ?_⟩, ?_, ⟨g', exA h9⟩, ?_, h11⟩
  · rw [← hc]
    exact hst_eq
  · obtain ⟨f, t1, t2⟩ := h3
    exact ⟨f, exA t1, t2⟩
  · obtain ⟨sh, ho, co, aa, fs, fh, fc, fa, b, k1, k2, k3, k4, k5, k6⟩ := h4
    exact ⟨sh, ho, co, aa, fs, fh, fc, fa, b, exO k1 (by omega), exA k2, exA k3, exA k4, exA k5, k6⟩
  · obtain ⟨s, s1, s2⟩ := h7 i S hS
    exact ⟨s, s1, exS s2⟩
  · obtain ⟨d, ls, k1, k2, k3, k4, k5⟩ := h8
    refine ⟨d, ls, exL k1, k2, k3, k4, fun i c hc => ?_⟩
    obtain ⟨l, dd, es, a1, ⟨b1, b2, b3⟩, a3⟩ := k5 i c hc
    refine ⟨l, dd, es, a1, ⟨exL b1, b2, fun i c hc => ?_⟩, a3⟩
    obtain ⟨a, a1, c', y, a2, a3⟩ := b3 i c hc
    refine ⟨a, a1, c', y, exO a2 ?_, a3⟩
    rcases a3 with ⟨_, z, _⟩ | ⟨_, z, _⟩ | ⟨_, z, _⟩ | ⟨_, z, _⟩ | ⟨_, z, _⟩ <;> omega
  · obtain ⟨h1, h2, h3, h4, h5, h6, h7, h8, h9, h10, h11, h12⟩ := h10
    exact ⟨exT h1, exT h2, exT h3, exT h4, exT h5, exT h6, exT h7, exT h8, exT h9, exT h10, exT h11, exT h12⟩
/-- what may stand when a law or a story is read: all but the tape's length, the place of the fault, the law -/
theorem RM.keep {R : RS} {σ σ' : MSt} {td' : Nat} {al' : Nat → Int32} {t' lw' : Nat} (h : RM R σ) (hT : Tp σ' R.tx td') (hL : MLaw σ' al' t' R.S.nf)
    (hE : mE [0, 1, 2, 3, 4, 5, 6, 8, 9, 10, 11, 16, 17, 18, 19] [13, 14, 15, 21, 22, 23] [12, 20, 27] σ σ') : RM (R.rg, R.tx, td', al', t', R.S, R.imgs, R.cs, lw', R.st, R.tp, R.sl, R.im) σ' := by
  obtain ⟨-, -, h3, ⟨c1, c2, c3, c4, c5, c6⟩, ⟨n1, n2⟩, hi, ⟨s1, s2, s3⟩, p1, p2, p3⟩ := h
  refine ⟨hT, hL, h3, ⟨by rw [hE.1 28 (by simp)]; exact c1, by rw [hE.2.2 32 (by simp)]; exact c2, by rw [hE.1 29 (by simp)]; exact c3, by rw [hE.2.1 33 (by simp)]; exact c4, by rw [hE.1 30 (by simp)]; exact c5, by rw [hE.2.2 34 (by simp)]; exact c6⟩, ⟨n1, by rw [hE.1 31 (by simp)]; exact n2⟩, fun i S hS => ?_, ⟨by rw [hE.1 24 (by simp)]; exact s1, s2, fun i c hc => ?_⟩, by rw [hE.1 41 (by simp)]; exact p1, by rw [hE.1 42 (by simp)]; exact p2, by rw [hE.1 45 (by simp)]; exact p3⟩
  · obtain ⟨k1, k2⟩ := hi i S hS
    unfold imgM at k2 ⊢
    rw [hE.2.2 38 (by simp), hE.2.2 35 (by simp), hE.2.2 36 (by simp), hE.2.2 37 (by simp)]
    exact ⟨k1, k2⟩
  · obtain ⟨k1, k2, k3⟩ := s3 i c hc
    refine ⟨k1, by rw [hE.2.1 25 (by simp)]; exact k2, fun k e he => ?_⟩
    rw [hE.2.2 26 (by simp)]
    exact k3 k e he
/-! THE PLAIN LAW, 33: the law op -/
set_option maxRecDepth 100000
theorem in_nI {v n : Nat} (h : v ≤ n) (hn : n < 2 ^ 31) : In (nI v) n := ⟨by rw [nI_toInt (by omega)]; omega, by rw [nI_toInt (by omega)]; omega⟩
/-- the data of a law are in range -/
def DOk (D : MSt) : Prop := In (D.1 17) 16 ∧ In (D.1 18) 8 ∧ (∃ t, t ≤ 16 ∧ D.1 19 = nI t) ∧ (∀ s, s < 10 → In (D.2.1 21 s) 16 ∧ In (D.2.1 22 s) 20) ∧ ∀ g s, g < 8 → s < 10 → In (D.2.2 20 g s) 200
theorem DOk_Z : DOk mZ := by
  refine ⟨in_nI (v := 0) (by omega) (by omega), in_nI (v := 0) (by omega) (by omega), ⟨8, by omega, rfl⟩, fun s _ => ⟨in_nI (v := 16) (by omega) (by omega), in_nI (v := 0) (by omega) (by omega)⟩, fun g s _ _ => in_nI (v := 0) (by omega) (by omega)⟩
theorem DOk_ef {D : MSt} {c : Nat × Nat × Nat × Nat} (h : DOk D) (hc : COk c) : DOk (mEf D c) := by
  obtain ⟨h1, h2, h3, h4, h5⟩ := h
  obtain ⟨b1, b2, b3, b4, b5, b6, b7, b8, b9, b10⟩ := hc
  unfold mEf
  by_cases k0 : c.1 = 0
  · rw [if_pos k0]
    refine ⟨h1, h2, h3, h4, fun g s hg hs => ?_⟩
    rw [sG_3]
    split
    · exact in_nI (b4 k0) (by omega)
    · exact h5 g s hg hs
  · rw [if_neg k0]
    by_cases k1 : c.1 = 1
    · rw [if_pos k1]
      refine ⟨h1, h2, h3, fun s hs => ⟨?_, ?_⟩, h5⟩
      · rw [sA_2]
        split
        · exact in_nI (b5 k1) (by omega)
        · exact (h4 s hs).1
      · rw [sA_2, if_neg (by omega)]
        exact (h4 s hs).2
    · rw [if_neg k1]
      by_cases k2 : c.1 = 2
      · rw [if_pos k2]
        exact ⟨by rw [sF_1, if_pos rfl]; exact in_nI (b6 k2) (by omega), by rw [sF_1, if_neg (by omega)]; exact h2, by rw [sF_1, if_neg (by omega)]; exact h3, h4, h5⟩
      · rw [if_neg k2]
        by_cases k3 : c.1 = 3
        · rw [if_pos k3]
          exact ⟨by rw [sF_1, if_neg (by omega)]; exact h1, by rw [sF_1, if_pos rfl]; exact in_nI (b7 k3) (by omega), by rw [sF_1, if_neg (by omega)]; exact h3, h4, h5⟩
        · rw [if_neg k3]
          by_cases k4 : c.1 = 4
          · rw [if_pos k4]
            exact ⟨by rw [sF_1, if_neg (by omega)]; exact h1, by rw [sF_1, if_neg (by omega)]; exact h2, by rw [sF_1, if_pos rfl]; exact ⟨c.2.2.2, by have := (b8 k4).2; omega, rfl⟩, h4, h5⟩
          · rw [if_neg k4]
            by_cases k5 : c.1 = 5
            · rw [if_pos k5]
              refine ⟨h1, h2, h3, fun s hs => ⟨?_, ?_⟩, h5⟩
              · rw [sA_2, if_neg (by omega), sA_2, if_neg (by omega)]
                exact (h4 s hs).1
              · rw [sA_2, if_neg (by omega), sA_2, if_neg (by omega)]
                exact (h4 s hs).2
            · rw [if_neg k5]
              refine ⟨h1, h2, h3, fun s hs => ⟨?_, ?_⟩, h5⟩
              · rw [sA_2, if_neg (by omega)]
                exact (h4 s hs).1
              · rw [sA_2]
                split
                · exact in_nI (b10 (by omega)) (by omega)
                · exact (h4 s hs).2
theorem DOk_rd : ∀ (l : List (Nat × Nat × Nat × Nat)) (D : MSt) (k : Nat), (∀ c, c ∈ l → COk c) → DOk D → DOk (mRd D l k) := by
  intro l
  induction l with
  | nil => intro D k _ h; exact h
  | cons c l ih =>
    intro D k hc h
    exact ih _ _ (fun x hx => hc x (List.mem_cons_of_mem _ hx)) (DOk_ef (show DOk (m_sF D 16 (nI (k + 1))) from h) (hc c List.mem_cons_self))
/-- the object's fields are written, one by one -/
theorem RC.h3 {R : RS} {lit : Nat → Nat} {x w : Nat} {lwv : LW} {cm : Nat → Int32} {cl fa v : Int32} {τ : HP} (h : RC R lit x w lwv cm cl fa τ) : ∃ u, hp τ x [0] 3 (.int v) = some u ∧ RC R lit x w lwv cm cl v u ∧ u.2 = τ.2 ∧ (Wf τ → Wf u) ∧ ∀ q, q ≠ x → u.1 q = τ.1 q :=
  ⟨_, hp_of (cs := [0]) (k := 3) h.1 rfl (by omega) (by simp), h.xs (td' := R.td) (fa' := v) h.2.2.1, rfl, fun hf => hf.st h.1, fun q hq => hst_ne hq⟩
theorem RC.h2 {R : RS} {lit : Nat → Nat} {x w : Nat} {lwv : LW} {cm : Nat → Int32} {cl fa : Int32} {τ : HP} (h : RC R lit x w lwv cm cl fa τ) : ∃ u, hp τ x [0] 2 (.int (0 : Int32)) = some u ∧ RC (R.rg, R.tx, 0, R.al, R.t, R.S, R.imgs, R.cs, R.lw, R.st, R.tp, R.sl, R.im) lit x w lwv cm cl fa u ∧ u.2 = τ.2 ∧ (Wf τ → Wf u) ∧ ∀ q, q ≠ x → u.1 q = τ.1 q :=
  ⟨_, hp_of (cs := [0]) (k := 2) h.1 rfl (by omega) (by simp), h.xs (td' := 0) (fa' := fa) h.2.2.1, rfl, fun hf => hf.st h.1, fun q hq => hst_ne hq⟩
theorem RC.h0 {R : RS} {lit : Nat → Nat} {x w lw' t' : Nat} {lwv lwv' : LW} {cm cm' al' : Nat → Int32} {cl cl' fa : Int32} {τ : HP} (h : RC R lit x w lwv cm cl fa τ) (hL : ∃ B, LwR τ B lw' lwv' cm' al' (nI t') cl') : ∃ u, hp τ x [0] 0 (.ref lw') = some u ∧ RC (R.rg, R.tx, R.td, al', t', R.S, R.imgs, R.cs, lw', R.st, R.tp, R.sl, R.im) lit x w lwv' cm' cl' fa u ∧ u.2 = τ.2 ∧ (Wf τ → Wf u) ∧ ∀ q, q ≠ x → u.1 q = τ.1 q :=
  ⟨_, hp_of (cs := [0]) (k := 0) h.1 rfl (by omega) (by simp), h.xs (td' := R.td) (fa' := fa) hL, rfl, fun hf => hf.st h.1, fun q hq => hst_ne hq⟩
/-- a reader is made -/
theorem rd_new {τ : HP} {tp n : Nat} (hf : Wf τ) : ∃ u, (wt_lt (hnew τ (.inr (3, [.null, .int 0, .int 0, .int 0]))) fun τ14 => eX5_init τ14 τ.2 tp (nI n)) = some u ∧ RdR u τ.2 tp n 0 0 ∧ Fr [] τ u := by
  have e1 : (hnew τ (.inr (3, [.null, .int 0, .int 0, .int 0]))).1 τ.2 = some (.inr (3, [.null, .int 0, .int 0, .int 0])) := hnew_eq
  have F1 : Fr [] τ (hnew τ (.inr (3, [.null, .int 0, .int 0, .int 0]))) := Fr.new
  rw [wp_lt_id]
  generalize hnew τ (.inr (3, [.null, .int 0, .int 0, .int 0])) = t1 at e1 F1
  unfold eX5_init
  rw [hp_of (cs := [3]) (k := 0) e1 rfl (by omega) (by simp), wt_bd_s, hp_of (cs := [3]) (k := 1) hst_eq rfl (by omega) (by simp), wt_bd_s, hst_hst]
  exact ⟨_, rfl, hst_eq, F1.then (Fr.st (W := [τ.2]) e1 (by simp)) fun q hq => Or.inr (by
    have : q = τ.2 := by simpa using hq
    omega)⟩
theorem MLaw.eq {σ σ' : MSt} {al : Nat → Int32} {t nf : Nat} (h : MLaw σ al t nf) (h1 : lwOf σ' = lwOf σ) (h2 : σ'.2.1 14 = σ.2.1 14) (h3 : σ'.2.1 15 = σ.2.1 15) (h4 : σ'.1 11 = σ.1 11) (h5 : σ'.1 28 = σ.1 28) (h6 : σ'.2.2 32 = σ.2.2 32) : MLaw σ' al t nf := by
  obtain ⟨l1, l2, l3, l4, l5, l6, l7, l8⟩ := h
  exact ⟨by rw [h3]; exact l1, by rw [h1]; exact l2, by rw [h2]; exact l3, by rw [h4]; exact l4, l5, by rw [h5]; exact l6, l7, by rw [h6]; exact l8⟩
theorem LwX.lwr {u : HP} {lw sh ho co aa ncl t : Nat} {D : MSt} {al : Nat → Int32} {w : LW} {cm : Nat → Int32} (hf : Wf u) (h : LwX u lw sh ho co aa D al ncl) (h1 : w.1 = D.1 17) (h2 : w.2.1 = D.1 18) (h3 : D.1 19 = nI t) (h4 : ∀ s, s < 10 → w.2.2.2 s = D.2.1 21 s ∧ cm s = D.2.1 22 s) (h5 : ∀ g s, g < 8 → s < 10 → w.2.2.1 g s = D.2.2 20 g s) : ∃ B, LwR u B lw w cm al (nI t) (nI ncl) := by
  obtain ⟨fs, fh, fc, fa, k1, k2, k3, k4, k5, -, k7, k8, k9, k10, -⟩ := h
  refine ⟨u.2, sh, ho, co, aa, fs, fh, fc, fa, ⟨hf _ _ k1, hf _ _ k2, hf _ _ k3, hf _ _ k4, hf _ _ k5⟩, ?_, k2, k3, k4, k5, fun g s hg hs => (k7 g s hg hs).trans (h5 g s hg hs).symm, fun s hs => (k8 s hs).trans (h4 s hs).1.symm, fun s hs => (k9 s hs).trans (h4 s hs).2.symm, k10⟩
  rw [k1, h1, h2, h3]
