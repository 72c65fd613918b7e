/-! THE PLAIN LAW, 25: the component reads a story to its end -/
set_option maxRecDepth 100000
/-- a new list of room 4 -/
theorem cj_new {τ : HP} {l : Nat} (hf : Wf τ) (h : τ.1 l = some (.inr (13, [.int 0, .null, .int 0]))) : wp (eJ2_init τ l (4 : Int32)) (fun u => ∃ d, τ.2 ≤ d ∧ LA u l d [] ∧ Fr [l] τ u) := by
  have hl := hf l _ h
  unfold eJ2_init eJ1_init eJ0_init
  rw [wt_bd_s, hp_of (cs := [13]) (k := 0) h rfl (by omega) (by simp), wt_bd_s, wt_bd_s, if_neg (by decide), wt_ck_t (by decide), wp_lt, show (4 : Int32).toNatClampNeg = 4 from by decide]
  have e1 : (hst τ l (.inr (13, [Value.int 0, .null, .int 0].set 0 (.int 0)))).1 l = some (.inr (13, [.int 0, .null, .int 0])) := hst_eq
  have F1 : Fr [l] τ (hst τ l (.inr (13, [Value.int 0, .null, .int 0].set 0 (.int 0)))) := Fr.st h (by simp)
  have z1 : (hst τ l (.inr (13, [Value.int 0, .null, .int 0].set 0 (.int 0)))).2 = τ.2 := rfl
  generalize hst τ l (.inr (13, [Value.int 0, .null, .int 0].set 0 (.int 0))) = t1 at e1 F1 z1 ⊢
  have e2 : (hnew t1 (.inl (2, 4, .inr (.inr (.inr (.inr (fun _ => none))))))).1 l = some (.inr (13, [.int 0, .null, .int 0])) := (hnew_ne (by omega)).trans e1
  have e3 : (hnew t1 (.inl (2, 4, .inr (.inr (.inr (.inr (fun _ => none))))))).1 t1.2 = some (.inl (2, 4, .inr (.inr (.inr (.inr (fun _ => none)))))) := hnew_eq
  have F2 : Fr [l] τ (hnew t1 (.inl (2, 4, .inr (.inr (.inr (.inr (fun _ => none))))))) := F1.trans Fr.new
  generalize hnew t1 (.inl (2, 4, .inr (.inr (.inr (.inr (fun _ => none)))))) = t2 at e2 e3 F2 ⊢
  rw [hp_of (cs := [13]) (k := 1) e2 rfl (by omega) (by simp), wt_bd_s, wp_some]
  exact ⟨t1.2, by omega, ⟨0, 4, fun _ => none, hst_eq, (hst_ne (by omega)).trans e3, by simp, by omega, by omega, fun i e hi => by simp at hi⟩, F2.trans (Fr.st e2 (by simp))⟩
theorem EsR.ob {τ : HP} {l d : Nat} {es : List Nat} {cs : List (Nat × Nat × Nat × Nat)} (h : EsR τ l d es cs) : Ob τ es := by
  intro e he
  obtain ⟨i, hi, z⟩ := List.getElem_of_mem he
  have hl := h.2.1
  have hi2 : i < cs.length := by omega
  obtain ⟨a, a1, a2⟩ := h.2.2 i _ (List.getElem?_eq_getElem hi2)
  rw [List.getElem?_eq_getElem hi, z] at a1
  cases a1
  obtain ⟨c, c1, -, c2, -⟩ := a2.cl
  exact ⟨c, c1, c2⟩
theorem lastH_app {cs : List (Nat × Nat × Nat × Nat)} {c : Nat × Nat × Nat × Nat} : lastH (cs ++ [c]) = some c.2.2.2 := by
  unfold lastH
  simp
section CT
variable {o tp n p0 : Nat} {fr0 : Int32} {tx : Nat → Nat}
/-- the outcome of all events in the component -/
def LsQ (τ0 : HP) (o l : Nat) (cs : List (Nat × Nat × Nat × Nat)) (r : PR (List (Nat × Nat × Nat × Nat))) (out : (HP × Nat × Nat) ⊕ ((Nat × HP) ⊕ (Nat × Nat × HP))) : Prop := match r, out with
  | .inr ls, .inl v => (∃ d es, EsR v.1 l d es (cs ++ ls) ∧ τ0.2 ≤ d ∧ ∀ a, a ∈ es → τ0.2 ≤ a) ∧ Fr [o] τ0 v.1 ∧ v.2.1 ≤ 500 ∧ v.2.2 ≤ 6000
  | .inl e, .inr (.inr x) => x.1 = 4 ∧ WrR x.2.2 x.2.1 e.1 e.2 ∧ Fr [o] τ0 x.2.2
  | _, _ => False
set_option maxHeartbeats 2000000 in
theorem cevents {lit : Nat → Nat} {τ0 : HP} (hn : n ≤ 400) (hf0 : Wf τ0) (hr0 : RdR τ0 o tp n p0 fr0) (ht0 : TxR τ0 tp tx) (hL0 : Lits τ0 lit) : ∀ (f p : Nat) (cs : List (Nat × Nat × Nat × Nat)) (d : Nat) (es : List Nat) (t : HP) (fr : Int32), f + cs.length = 21 → cs.length ≤ 20 → RdR t o tp n p fr → EsR t τ0.2 d es cs → τ0.2 ≤ d → (∀ a, a ∈ es → τ0.2 ≤ a) → (∀ c, c ∈ cs → EvcOk c) → Fr [o] τ0 t → p ≤ n →
    wp (wt_whC (bX5_story_1 lit τ0 o) (t, 2 + 17 * cs.length, 7 + 171 * cs.length)) (LsQ τ0 o τ0.2 cs (pStory tx n f cs.length (lastH cs) p)) := by
  have ho := hf0 o _ hr0
  intro f
  induction f with
  | zero => intro p cs d es t fr hk hk2; omega
  | succ f ih =>
    intro p cs d es t fr hk hk2 h2 hE hd hes hev hF hp
    have hf := hF.1 hf0
    have T := tx_o hF hf0 hr0 ht0
    have L := hL0.keep hF hf0 (NoL.obj hr0 (by decide) NoL.nil)
    have hEl := hE.2.1
    refine wp_wh ?_
    unfold bX5_story_1 pStory
    dsimp only
    rw [hgI_of (cs := [3]) (k := 2) h2 rfl rfl, wt_bd_s, hgI_of (cs := [3]) (k := 1) h2 rfl rfl, wt_bd_s, wp_ite]
    by_cases c : n ≤ p
    · rw [if_pos c, if_pos (by rw [nI_leI (by omega) (by omega)]; exact c), wp_some, lpo_r]
      exact ⟨⟨d, es, by rw [List.append_nil]; exact hE, hd, hes⟩, hF, by show 2 + 17 * cs.length ≤ 500; omega, by show 7 + 171 * cs.length ≤ 6000; omega⟩
    · rw [if_neg c, if_neg (by rw [nI_leI (by omega) (by omega)]; exact c), wt_ck_t (hcl_of h2)]
      refine wp_ap (cevent hf h2 T hn hp L hE hev hk2) fun out hq => ?_
      have hok := fun c' hc => pEvent_ok (tx := tx) (n := n) (k := cs.length) (last := lastH cs) (p := p) (c := c') hp hc
      rw [pEv_0] at hok ⊢
      have h20 : cs.length = 20 → ∃ e, pEv0 tx n cs.length (lastH cs) p = .inl e := fun z => by
        rw [z]
        unfold pEv0
        dsimp only
        by_cases c7 : eKind (wd tx n (skB tx n p)) = 5
        · exact ⟨_, by rw [if_pos c7]⟩
        · exact ⟨_, by rw [if_neg c7, if_pos rfl]⟩
      revert hq h20 hok
      cases pEv0 tx n cs.length (lastH cs) p with
      | inl e =>
        cases out with
        | inl w => intro z _ _; exact z.elim
        | inr x =>
          rintro ⟨b1, b2, b3⟩ - -
          rw [wt_ck_t (by constructor <;> omega), rs_r, wt_ck_t (by constructor <;> omega), wp_some, lpo_r]
          exact ⟨b1, b2, hF.trans b3⟩
      | inr c =>
        cases out with
        | inr x => intro z _ _; exact z.elim
        | inl w =>
          rintro ⟨b1, ⟨fr1, b2⟩, b3, b4, b5⟩ hok h20
          obtain ⟨ea, t1⟩ := w
          dsimp only at b2 b3 b4 b5
          have hk20 : cs.length ≠ 20 := fun z => by
            obtain ⟨e, he⟩ := h20 z
            cases he
          have hf1 := b3.1 hf
          have hge := hF.2.1
          have E1 : EsR t1 τ0.2 d es cs := hE.keep b3 hf (by simp; omega) (by simp; omega) (fun a ha => by have := hes a ha; simp; omega)
          obtain ⟨ce, ce1, -, ce2, -⟩ := b5.cl
          rw [wt_ck_t (by constructor <;> omega), rs_l]
          dsimp only
          rw [wt_ck_t E1.1.cl, pB_r]
          refine wp_ap (jadd hf1 E1.1 (by omega) E1.ob ce1 ce2) fun r ⟨j1, d', j2, j3, j4, j5⟩ => ?_
          obtain ⟨r1, t2⟩ := r
          dsimp only at j1 j2 j4 j5 ⊢
          have hge1 := b3.2.1
          have hf2 := j4.1 hf1
          have R2 := j4.at hf1 b2 (by simp; omega)
          have F2 : Fr [o] τ0 t2 := (hF.trans b3).then j4 fun q hq => Or.inr (by
            have : q = τ0.2 ∨ q = d := by simpa using hq
            omega)
          have keepEv : ∀ {a : Nat} {e : Nat → Int32}, EvR t1 a e → EvR t2 a e := fun {a e} hx => by
            obtain ⟨c', y, x1, x2⟩ := hx
            refine ⟨c', y, j4.at hf1 x1 (fun z => ?_), x2⟩
            obtain ⟨mc, cap, g, l1, l2, -⟩ := E1.1
            have z2 : a = τ0.2 ∨ a = d := by simpa using z
            rcases z2 with z2 | z2
            · rw [z2, l1] at x1
              injection x1 with x1
              injection x1 with x1
              have := congrArg Prod.fst x1
              dsimp only at this
              rcases x2 with ⟨_, z, _⟩ | ⟨_, z, _⟩ | ⟨_, z, _⟩ | ⟨_, z, _⟩ | ⟨_, z, _⟩ <;> omega
            · rw [z2, l2] at x1
              cases x1
          have E2 : EsR t2 τ0.2 d' (es ++ [ea]) (cs ++ [c.2]) := by
            refine ⟨j2, by rw [List.length_append, List.length_append]; show es.length + 1 = cs.length + 1; omega, fun i x hx => ?_⟩
            rcases Nat.lt_or_ge i cs.length with z | z
            · rw [List.getElem?_append_left z] at hx
              obtain ⟨a, a1, a2⟩ := E1.2.2 i x hx
              exact ⟨a, by rw [List.getElem?_append_left (by omega)]; exact a1, keepEv a2⟩
            · rw [List.getElem?_append_right z] at hx
              have hi : i = cs.length := by
                rcases Nat.lt_or_ge (i - cs.length) 1 with y | y
                · omega
                · rw [List.getElem?_eq_none (by simpa using y)] at hx; cases hx
              subst hi
              have hx2 : c.2 = x := by simpa using hx
              subst hx2
              exact ⟨ea, by rw [List.getElem?_append_right (by omega), hEl]; simp, keepEv b5⟩
          have hes2 : ∀ a, a ∈ es ++ [ea] → τ0.2 ≤ a := fun a ha => by
            rcases List.mem_append.mp ha with z | z
            · exact hes a z
            · have : a = ea := by simpa using z
              omega
          have hd2 : τ0.2 ≤ d' := by omega
          rw [wt_ck_t (by constructor <;> omega), wt_ck_t (hcl_of R2)]
          refine wp_ap (cneed hf2 R2 (tx_o F2 hf0 hr0 ht0) hn b1) fun out2 hq2 => ?_
          have hs2 := fun e he => pSign_ok (tx := tx) (n := n) (p := c.1) (e := e) he
          revert hq2 hok
          cases hsg : pSign tx n c.1 with
          | inl e =>
            cases out2 with
            | inl w => intro _ z; exact z.elim
            | inr x =>
              rintro - ⟨d1, d2, d3⟩
              rw [wt_ck_t (by constructor <;> omega), rs_r, wt_ck_t (by constructor <;> omega), wp_some, lpo_r]
              exact ⟨d1, d2, F2.trans d3⟩
          | inr q =>
            cases out2 with
            | inr x => intro _ z; exact z.elim
            | inl t3 =>
              rintro hok ⟨d1, ⟨fr2, d2⟩, d3⟩
              obtain ⟨-, ok1, -⟩ := hok (q, c.2) (by rw [pB_r, hsg, pB_r])
              have F3 : Fr [o] τ0 t3 := F2.trans d3
              have hf3 := F3.1 hf0
              rw [wt_ck_t (by constructor <;> omega), rs_l, wt_ck_t (hcl_of d2), pB_r]
              refine wp_ap (csign d2 (tx_o F3 hf0 hr0 ht0) hn d1) fun r ⟨_, s2, s3, s4⟩ => ?_
              rw [wt_ck_t (by constructor <;> omega), wp_some, lpo_l]
              have F4 : Fr [o] τ0 r.2 := F3.trans s3
              have hge2 := j4.2.1
              have E4 : EsR r.2 τ0.2 d' (es ++ [ea]) (cs ++ [c.2]) := E2.keep (d3.trans s3) hf2 (by simp; omega) (by simp; omega) (fun a ha => by have := hes2 a ha; simp; omega)
              have hl1 : (cs ++ [c.2]).length = cs.length + 1 := by rw [List.length_append]; rfl
              have hgo := ih (skB tx n q) (cs ++ [c.2]) d' (es ++ [ea]) r.2 fr2 (by omega) (by omega) s2 E4 hd2 hes2 (fun x hx => by
                rcases List.mem_append.mp hx with z | z
                · exact hev x z
                · have : x = c.2 := by simpa using z
                  rw [this]; exact ok1) F4 (skB_le (tx := tx) d1).2
              rw [hl1, lastH_app] at hgo
              rw [show 2 + 17 * cs.length + 17 = 2 + 17 * (cs.length + 1) from by omega, show 7 + 171 * cs.length + 171 = 7 + 171 * (cs.length + 1) from by omega]
              refine wp_mono hgo fun out3 hq3 => ?_
              show LsQ τ0 o τ0.2 cs (pB (pStory tx n f (cs.length + 1) (some c.2.2.2.2) (skB tx n q)) fun l => .inr (c.2 :: l)) out3
              revert hq3
              cases pStory tx n f (cs.length + 1) (some c.2.2.2.2) (skB tx n q) with
              | inl e =>
                cases out3 with
                | inl w => intro z; exact z
                | inr x =>
                  cases x with
                  | inl y => intro z; exact z
                  | inr y => exact id
              | inr l =>
                cases out3 with
                | inr x =>
                  cases x with
                  | inl y => intro z; exact z
                  | inr y => intro z; exact z
                | inl w =>
                  rintro ⟨⟨d4, es4, g1, g2, g3⟩, g4⟩
                  refine ⟨⟨d4, es4, ?_, g2, g3⟩, g4⟩
                  rw [List.append_assoc] at g1
                  exact g1
end CT
/-- the outcome of a story in the component -/
def SmQ (τ : HP) (o : Nat) (r : PR (List (Nat × Nat × Nat × Nat))) (out : (Nat × HP) ⊕ (Nat × Nat × HP)) : Prop := match r, out with
  | .inr ls, .inl v => (∃ d es, EsR v.2 v.1 d es ls ∧ τ.2 ≤ v.1 ∧ τ.2 ≤ d ∧ ∀ a, a ∈ es → τ.2 ≤ a) ∧ Fr [o] τ v.2
  | .inl e, .inr x => x.1 = 4 ∧ WrR x.2.2 x.2.1 e.1 e.2 ∧ Fr [o] τ x.2.2
  | _, _ => False
theorem cstory {lit : Nat → Nat} {τ : HP} {o tp n : Nat} {fr : Int32} {tx : Nat → Nat} (hf : Wf τ) (h : RdR τ o tp n 0 fr) (ht : TxR τ tp tx) (hn : n ≤ 400) (hL : Lits τ lit) : wp (eX5_story lit τ o) (SmQ τ o (pStory tx n 21 0 none (skB tx n 0))) := by
  have hlo := hf o _ h
  unfold eX5_story
  rw [wp_lt]
  have f1 : Wf (hnew τ (.inr (13, [.int 0, .null, .int 0]))) := hf.new
  have F1 : Fr [] τ (hnew τ (.inr (13, [.int 0, .null, .int 0]))) := Fr.new
  have e1 : (hnew τ (.inr (13, [.int 0, .null, .int 0]))).1 τ.2 = some (.inr (13, [.int 0, .null, .int 0])) := hnew_eq
  have z1 : (hnew τ (.inr (13, [.int 0, .null, .int 0]))).2 = τ.2 + 1 := rfl
  generalize hnew τ (.inr (13, [.int 0, .null, .int 0])) = t1 at f1 F1 e1 z1 ⊢
  refine wp_ap (cj_new f1 e1) fun t2 ⟨d, hd, hA, F2⟩ => ?_
  have F12 : Fr [] τ t2 := F1.then F2 fun q hq => Or.inr (by
    have : q = τ.2 := by simpa using hq
    omega)
  have f2 := F12.1 hf
  have R2 := F12.at hf h (by simp)
  have T2 : TxR t2 tp tx := ht.keep F12 hf (by simp)
  rw [wt_ck_t (hcl_of R2)]
  refine wp_ap (csign R2 T2 hn (by omega)) fun r ⟨_, s2, s3, s4⟩ => ?_
  have F3 : Fr [o] τ r.2 := (F12.wide (by simp)).trans s3
  have A3 : LA r.2 τ.2 d [] := hA.keep s3 f2 (by simp; omega) (by simp; omega)
  refine wp_ap (cevents (lit := lit) (τ0 := τ) hn hf h ht hL 21 (skB tx n 0) [] d [] r.2 fr (by simp) (by simp) s2 ⟨A3, rfl, fun i c hc => by simp at hc⟩ (by omega) (fun a ha => by simp at ha) (fun c hc => by simp at hc) F3 (skB_le (tx := tx) (Nat.zero_le n)).2) fun out hq => ?_
  revert hq
  show LsQ τ o τ.2 [] (pStory tx n 21 0 none (skB tx n 0)) out → _
  cases pStory tx n 21 0 none (skB tx n 0) with
  | inl e =>
    cases out with
    | inl w => intro z; exact z.elim
    | inr x =>
      cases x with
      | inl y => intro z; exact z.elim
      | inr y =>
        rintro ⟨g1, g2, g3⟩
        rw [rs_r, wp_some]
        exact ⟨g1, g2, g3⟩
  | inr l =>
    cases out with
    | inr x =>
      cases x with
      | inl y => intro z; exact z.elim
      | inr y => intro z; exact z.elim
    | inl w =>
      rintro ⟨⟨d4, es4, g1, g2, g3⟩, g4, g5, g6⟩
      rw [rs_l, wt_ck_t ⟨g5, g6⟩, wp_some]
      exact ⟨⟨d4, es4, g1, Nat.le_refl _, g2, g3⟩, g4⟩
/-! THE PLAIN LAW, 29: operations on a story: events, what lies, piles, what is worn -/
set_option maxRecDepth 100000
/-- the model asks for a story first -/
theorem mst_pre {R : RS} {σ : MSt} (hM : RM R σ) (a : Int32) : (∃ (i : Nat) (c : List (Nat × Nat × Nat × Nat)), R.cs[i]? = some c ∧ a = nI i ∧ i < 4 ∧ ∀ {β : Type} (F : Int32 × MSt → Option β), (wt_bd (dX4_isStory (m_sF σ 0 0) a) fun w2 => wt_bd (if w2 = 0 then (some (1 : Int32)) else (some (0 : Int32))) fun w4 => wt_bd (dX4_bad (m_sF σ 0 0) w4 (1 : Int32)) F) = F (0, m_sF σ 0 0)) ∨
    ((a < 0 ∨ (¬ a < 0 ∧ ¬ a < nI R.cs.length)) ∧ ∀ {β : Type} (F : Int32 × MSt → Option β), (wt_bd (dX4_isStory (m_sF σ 0 0) a) fun w2 => wt_bd (if w2 = 0 then (some (1 : Int32)) else (some (0 : Int32))) fun w4 => wt_bd (dX4_bad (m_sF σ 0 0) w4 (1 : Int32)) F) = F (1, m_sF (m_sF σ 0 0) 0 1)) := by
  obtain ⟨-, -, -, -, -, -, ⟨s1, s2, -⟩, -⟩ := hM
  have h24 : (m_sF σ 0 0).1 24 = nI R.cs.length := by rw [sF_1, if_neg (by omega)]; exact s1
  have h0 : (m_sF σ 0 0).1 0 = 0 := by rw [sF_1, if_pos rfl]
  rcases rngS a R.cs.length (by omega) with ⟨k, k1, k2, k3, k4, k5⟩ | ⟨k1, k2⟩
  · refine Or.inl ⟨k, R.cs[k], List.getElem?_eq_getElem k1, k2, by omega, fun F => ?_⟩
    rw [isStory_e, wt_bd_s, h24, k5, if_neg (by decide), wt_bd_s, bad_0 h0, wt_bd_s]
  · refine Or.inr ⟨k2, fun F => ?_⟩
    rw [isStory_e, wt_bd_s, h24, k1, if_pos rfl, wt_bd_s, bad_1 h0 (by decide), wt_bd_s]
theorem op_events {lit : Nat → Nat} {x w : Nat} {τ : HP} {σ : MSt} (hf : Wf τ) (h : RR lit x w τ σ) (a : Int32) : wp (eX1_events τ x a) (QH lit x w cdS (dX4_events σ a)) := by
  obtain ⟨g1, g2⟩ := h.s0
  have hcl := h.cl
  obtain ⟨R, r1, r2⟩ := h
  have r1' := r1.Q (mQ.sF (v := 0))
  obtain ⟨e1, e2, e3, e4⟩ := (mQ.sF (σ := σ) (v := 0)).lw
  unfold eX1_events dX4_events
  rw [wt_ck_t hcl, wp_lt_id]
  rcases mst_pre r1 a with ⟨i, c, hc, ha, hi, hp⟩ | ⟨ha, hp⟩
  · subst ha
    obtain ⟨τ', l, z1, z2, mv, K, -⟩ := run_c hf r1 r2 hc
    obtain ⟨-, ⟨d, es, l1, l2, -⟩, hr, -⟩ := K τ' Fr.rfl
    rw [hp, z1, wt_bd_s, rs_l]
    dsimp only
    rw [if_pos rfl, wt_ck_t (show vp_in (nI i) 4 by rw [vp_nI (by omega)]; exact hi), nI_clamp (by omega), hgA_of (cs := [8]) (k := 0) hr rfl rfl, wt_bd_s, wt_ck_t l1.cl, jsize l1, wt_bd_s, wp_some]
    obtain ⟨-, -, -, -, -, -, ⟨-, -, s3⟩, -⟩ := r1'
    obtain ⟨-, k4, -⟩ := s3 i c hc
    exact ⟨m_sF σ 0 0, by rw [k4, l2], g2, g1.q (z2.ex hf) mQ.rfl⟩
  · rw [hp, run_n r2 ha, wt_bd_s, rs_r, wp_some]
    dsimp only
    rw [if_neg (by decide)]
    exact ⟨show (1 : Int32) ≠ 0 by decide, 0, _, rfl, g1.s1.2, g1.s1.1⟩
theorem w_events {lit : Nat → Nat} {x w : Nat} {τ : HP} {σ : MSt} (hf : Wf τ) (h : RR lit x w τ σ) (a : Int32) : wp (eX0_events τ x a w) (OpR lit x w (dX4_events σ a)) := wrapH (op_events hf h a) h.cl fun e he => one_h (c := 0) (k := 101) rfl he
