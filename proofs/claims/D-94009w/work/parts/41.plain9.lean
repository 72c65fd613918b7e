/-! THE PLAIN LAW, 30: operations on a story: what lies, piles, what is worn, its numbers -/
set_option maxRecDepth 100000
theorem need_1 {τ : HP} : eX1_need τ (1 : Int32) = some (.inl ()) := by
  unfold eX1_need
  rw [if_neg (by decide)]
theorem need_0 {τ : HP} : eX1_need τ (0 : Int32) = some (.inr (100, 0, τ)) := by
  unfold eX1_need
  rw [if_pos rfl]
theorem isPlace_e {a : Int32} : (Ix a 10 ∧ eX1_isPlace a = some 1) ∨ (¬ Ix a 10 ∧ eX1_isPlace a = some 0) := by
  rcases rng a 9 (by omega) with ⟨k, h1, h2, h3, h4, -⟩ | ⟨-, h2 | ⟨h2, h3, -⟩⟩
  · refine Or.inl ⟨⟨k, by omega, h2⟩, ?_⟩
    unfold eX1_isPlace
    rw [if_neg h3, if_neg (show ¬ (10 : Int32) ≤ a from h4)]
  · refine Or.inr ⟨fun ⟨k, h1, e⟩ => ?_, ?_⟩
    · rw [e] at h2
      exact nI_pos (by omega) h2
    · unfold eX1_isPlace
      rw [if_pos h2]
  · refine Or.inr ⟨fun ⟨k, h1, e⟩ => ?_, ?_⟩
    · rw [e, nI_leI (by omega) (by omega)] at h3
      omega
    · unfold eX1_isPlace
      rw [if_neg h2, if_pos (show (10 : Int32) ≤ a from h3)]
theorem isSort_i {a : Int32} : (Ix a 10 ∧ eX1_isSort a = some 1) ∨ (¬ Ix a 10 ∧ eX1_isSort a = some 0) := isPlace_e
theorem isHour_e {a : Int32} : (Ix a 100 ∧ eX1_isHour a = some 1) ∨ (¬ Ix a 100 ∧ eX1_isHour a = some 0) := by
  rcases rng a 99 (by omega) with ⟨k, h1, h2, h3, -, h4, -⟩ | ⟨-, h2 | ⟨h2, -, h3⟩⟩
  · refine Or.inl ⟨⟨k, by omega, h2⟩, ?_⟩
    unfold eX1_isHour
    rw [if_neg h3, if_neg (show ¬ (99 : Int32) < a from h4)]
  · refine Or.inr ⟨fun ⟨k, h1, e⟩ => ?_, ?_⟩
    · rw [e] at h2
      exact nI_pos (by omega) h2
    · unfold eX1_isHour
      rw [if_pos h2]
  · refine Or.inr ⟨fun ⟨k, h1, e⟩ => ?_, ?_⟩
    · rw [e, nI_ltI (by omega) (by omega)] at h3
      omega
    · unfold eX1_isHour
      rw [if_neg h2, if_pos (show (99 : Int32) < a from h3)]
/-- the component's three checks -/
theorem three_e {β γ : Type} (p s h : Int32) : ((Ix p 10 ∧ Ix s 10 ∧ Ix h 100) ∧ ∀ (Y : Option (Unit ⊕ γ)) (F : Unit ⊕ γ → Option β), (wt_bd (eX1_isPlace p) fun w5 => wt_bd (if w5 = 0 then (some (.inl ())) else (wt_bd (eX1_isSort s) fun w12 => if w12 = 0 then (some (.inl ())) else (wt_bd (eX1_isHour h) fun w15 => if w15 = 0 then (some (.inl ())) else Y))) F) = wt_bd Y F) ∨
    ((¬ (Ix p 10 ∧ Ix s 10 ∧ Ix h 100)) ∧ ∀ (Y : Option (Unit ⊕ γ)) (F : Unit ⊕ γ → Option β), (wt_bd (eX1_isPlace p) fun w5 => wt_bd (if w5 = 0 then (some (.inl ())) else (wt_bd (eX1_isSort s) fun w12 => if w12 = 0 then (some (.inl ())) else (wt_bd (eX1_isHour h) fun w15 => if w15 = 0 then (some (.inl ())) else Y))) F) = F (.inl ())) := by
  rcases isPlace_e (a := p) with ⟨p1, p2⟩ | ⟨p1, p2⟩
  · rcases isSort_i (a := s) with ⟨s1, s2⟩ | ⟨s1, s2⟩
    · rcases isHour_e (a := h) with ⟨h1, h2⟩ | ⟨h1, h2⟩
      · exact Or.inl ⟨⟨p1, s1, h1⟩, fun Y F => by rw [p2, wt_bd_s, if_neg (by decide), s2, wt_bd_s, if_neg (by decide), h2, wt_bd_s, if_neg (by decide)]⟩
      · exact Or.inr ⟨fun z => h1 z.2.2, fun Y F => by rw [p2, wt_bd_s, if_neg (by decide), s2, wt_bd_s, if_neg (by decide), h2, wt_bd_s, if_pos rfl, wt_bd_s]⟩
    · exact Or.inr ⟨fun z => s1 z.2.1, fun Y F => by rw [p2, wt_bd_s, if_neg (by decide), s2, wt_bd_s, if_pos rfl, wt_bd_s]⟩
  · exact Or.inr ⟨fun z => p1 z.1, fun Y F => by rw [p2, wt_bd_s, if_pos rfl, wt_bd_s]⟩
theorem mE_Q40 {σ σ' : MSt} (h : mE [] [40] [39] σ σ') : mQ σ σ' := mQ.of h (by simp) (by simp) (by simp)
theorem op_lies {lit : Nat → Nat} {x w : Nat} {τ : HP} {σ : MSt} (hf : Wf τ) (h : RR lit x w τ σ) (a p s hr : Int32) : wp (eX1_lies τ x a p s hr) (QH lit x w cdSA (dX4_lies σ a p s hr)) := by
  obtain ⟨g1, g2⟩ := h.s0
  have hcl := h.cl
  obtain ⟨R, r1, r2⟩ := h
  have r1' := r1.Q (mQ.sF (v := 0))
  unfold eX1_lies dX4_lies
  rw [wt_ck_t hcl, wp_lt_id]
  rcases mst_pre r1 a with ⟨i, c, hc, ha, hi, hp⟩ | ⟨ha, hp⟩
  · subst ha
    obtain ⟨τ', l, z1, z2, C⟩ := run_c hf r1 r2 hc
    have hcr := hcl_of (show τ'.1 τ.2 = some (.inr (8, _)) from (C.choose_spec.1 τ' Fr.rfl).2.2.1)
    rw [hp, z1, wt_bd_s, rs_l]
    dsimp only
    rw [if_pos rfl]
    rcases three_e (β := (Int32 × HP) ⊕ (Nat × Nat × HP)) (γ := (Int32 × HP) ⊕ (Nat × Nat × HP)) p s hr with ⟨⟨⟨p', p1, p2⟩, ⟨s', s1, s2⟩, ⟨h', h1, h2⟩⟩, hY⟩ | ⟨hb, hY⟩
    · subst p2 s2 h2
      rw [hY, badPlace_0 g2 ⟨p', p1, rfl⟩ ⟨s', s1, rfl⟩ ⟨h', h1, rfl⟩, wt_bd_s]
      dsimp only
      obtain ⟨σ2, m1, m2, -, m3, -⟩ := mpile r1'.2.1 (runIn_c r1' hc) p1 s1 h1
      rw [need_1, wt_bd_s, rs_l, wt_ck_t hcr, if_pos rfl, m1, wt_bd_s, wt_ck_t (show vp_in (nI p') 10 by rw [vp_nI (by omega)]; exact p1), wt_ck_t (show vp_in (nI s') 10 by rw [vp_nI (by omega)]; exact s1), nI_clamp (by omega), nI_clamp (by omega), wp_bd, wp_bd]
      refine wp_mono (cat (z2.1 hf) C h1) fun out ⟨la, wa, _, _, _, o4, o5, _⟩ => ?_
      obtain ⟨f, g, k1, k2, k3, k4, k5⟩ := o4
      rw [hgA_of (cs := [9]) (k := 1) k1 rfl rfl, wt_bd_s, haI_of k2, wt_bd_s, i10, wt_ck_t (by rw [vp_nI (by omega)]; show _ < 100; omega), nI_clamp (by omega), wp_some, rs_r, wp_some]
      exact ⟨σ2, congrArg (fun z => some (z, σ2)) ((m3 p' s' p1 s1).trans (k4 p' s' p1 s1).symm), by rw [m2.1 0 (by simp)]; exact g2, g1.q ((z2.trans o5).ex hf) (mE_Q40 m2)⟩
    · rw [hY, badPlace_1 g2 (by decide) hb, wt_bd_s, rs_l]
      dsimp only
      rw [need_0, wt_bd_s, rs_r, wp_some, if_neg (by decide)]
      exact ⟨show (2 : Int32) ≠ 0 by decide, 0, _, rfl, g1.s1.2, (g1.q (z2.ex hf) mQ.rfl).s1.1⟩
  · rw [hp, run_n r2 ha, wt_bd_s, rs_r, wp_some]
    dsimp only
    rw [if_neg (by decide)]
    exact ⟨show (1 : Int32) ≠ 0 by decide, 0, _, rfl, g1.s1.2, g1.s1.1⟩
theorem w_lies {lit : Nat → Nat} {x w : Nat} {τ : HP} {σ : MSt} (hf : Wf τ) (h : RR lit x w τ σ) (a p s hr : Int32) : wp (eX0_lies τ x a p s hr w) (OpR lit x w (dX4_lies σ a p s hr)) := wrapH (op_lies hf h a p s hr) h.cl fun e he => two_h (k := 101) (j := 100) rfl he
theorem op_pile {lit : Nat → Nat} {x w : Nat} {τ : HP} {σ : MSt} (hf : Wf τ) (h : RR lit x w τ σ) (a p s hr : Int32) : wp (eX1_pile τ x a p s hr) (QH lit x w cdSA (dX4_pile σ a p s hr)) := by
  obtain ⟨g1, g2⟩ := h.s0
  have hcl := h.cl
  obtain ⟨R, r1, r2⟩ := h
  have r1' := r1.Q (mQ.sF (v := 0))
  unfold eX1_pile dX4_pile
  rw [wt_ck_t hcl, wp_lt_id]
  rcases mst_pre r1 a with ⟨i, c, hc, ha, hi, hp⟩ | ⟨ha, hp⟩
  · subst ha
    obtain ⟨τ', l, z1, z2, C⟩ := run_c hf r1 r2 hc
    have hcr := hcl_of (show τ'.1 τ.2 = some (.inr (8, _)) from (C.choose_spec.1 τ' Fr.rfl).2.2.1)
    rw [hp, z1, wt_bd_s, rs_l]
    dsimp only
    rw [if_pos rfl]
    rcases three_e (β := (Int32 × HP) ⊕ (Nat × Nat × HP)) (γ := (Int32 × HP) ⊕ (Nat × Nat × HP)) p s hr with ⟨⟨⟨p', p1, p2⟩, ⟨s', s1, s2⟩, ⟨h', h1, h2⟩⟩, hY⟩ | ⟨hb, hY⟩
    · subst p2 s2 h2
      rw [hY, badPlace_0 g2 ⟨p', p1, rfl⟩ ⟨s', s1, rfl⟩ ⟨h', h1, rfl⟩, wt_bd_s]
      dsimp only
      obtain ⟨σ2, m1, m2, m3, -, -⟩ := mpile r1'.2.1 (runIn_c r1' hc) p1 s1 h1
      rw [need_1, wt_bd_s, rs_l, wt_ck_t hcr, if_pos rfl, m1, wt_bd_s, m3, wt_bd_s, wp_bd, wp_bd]
      refine wp_mono (cat (z2.1 hf) C h1) fun out ⟨la, wa, _, _, _, o4, o5, _⟩ => ?_
      have hL := (C.choose_spec.1 out.2 o5).1
      rw [wt_ck_t (by
        obtain ⟨f, g, k1, -⟩ := o4
        exact hcl_of k1), cpile hL o4 p1 s1, wt_bd_s, wp_some, rs_r, wp_some]
      exact ⟨σ2, rfl, by rw [m2.1 0 (by simp)]; exact g2, g1.q ((z2.trans o5).ex hf) (mE_Q40 m2)⟩
    · rw [hY, badPlace_1 g2 (by decide) hb, wt_bd_s, rs_l]
      dsimp only
      rw [need_0, wt_bd_s, rs_r, wp_some, if_neg (by decide)]
      exact ⟨show (2 : Int32) ≠ 0 by decide, 0, _, rfl, g1.s1.2, (g1.q (z2.ex hf) mQ.rfl).s1.1⟩
  · rw [hp, run_n r2 ha, wt_bd_s, rs_r, wp_some]
    dsimp only
    rw [if_neg (by decide)]
    exact ⟨show (1 : Int32) ≠ 0 by decide, 0, _, rfl, g1.s1.2, g1.s1.1⟩
theorem w_pile {lit : Nat → Nat} {x w : Nat} {τ : HP} {σ : MSt} (hf : Wf τ) (h : RR lit x w τ σ) (a p s hr : Int32) : wp (eX0_pile τ x a p s hr w) (OpR lit x w (dX4_pile σ a p s hr)) := wrapH (op_pile hf h a p s hr) h.cl fun e he => two_h (k := 101) (j := 100) rfl he
/-- the finds, in any heap that has but grown -/
theorem fnc {R : RS} {lit : Nat → Nat} {x w : Nat} {τ : HP} {σ : MSt} {cl fa : Int32} (hf : Wf τ) (hM : RM R σ) (hC : RC R lit x w (lwOf σ) (σ.2.1 14) cl fa τ) : FnC τ x R.S.nf (σ.2.2 32) := by
  obtain ⟨q1, -, -, ⟨fl, d1, fs, hl, d2, hs, sa, g, k1, ⟨k2, k3, k4⟩, -⟩, -⟩ := hC
  obtain ⟨-, ⟨-, -, -, -, -, -, l7, l8⟩, -, ⟨-, c2, -⟩, -⟩ := hM
  refine ⟨⟨R.st, fl, fs, fun t hF => ?_, k3⟩, l7, l8⟩
  have hX := hF.ex hf
  refine ⟨hgA_of (cs := [0]) (k := 1) (hX _ _ q1) rfl rfl, hgA_of (cs := [2]) (k := 0) (hX _ _ k1) rfl rfl, ⟨d1, k2.ex hX⟩, fun f hlt => ?_⟩
  obtain ⟨a, a1, a2⟩ := k4 f (by omega)
  refine ⟨a, a1, ?_⟩
  unfold FdR at a2 ⊢
  rw [c2 f 0 (by omega) (by omega), c2 f 1 (by omega) (by omega), c2 f 2 (by omega) (by omega), c2 f 3 (by omega) (by omega)]
  exact hX _ _ a2
theorem mE_Q49 {σ σ' : MSt} (h : mE [49] [40] [39, 48] σ σ') : mQ σ σ' := mQ.of h (by simp) (by simp) (by simp)
theorem op_scale {lit : Nat → Nat} {x w : Nat} {τ : HP} {σ : MSt} (hf : Wf τ) (h : RR lit x w τ σ) (a : Int32) : wp (eX1_scale τ x a) (QH lit x w cdS (dX4_scale σ a)) := by
  obtain ⟨g1, g2⟩ := h.s0
  have hcl := h.cl
  obtain ⟨R, r1, r2⟩ := h
  have r1' := r1.Q (mQ.sF (v := 0))
  unfold eX1_scale dX4_scale
  rw [wt_ck_t hcl, wp_lt_id]
  rcases mst_pre r1 a with ⟨i, c, hc, ha, hi, hp⟩ | ⟨ha, hp⟩
  · subst ha
    obtain ⟨τ', l, z1, z2, C⟩ := run_c hf r1 r2 hc
    have hcr := hcl_of (show τ'.1 τ.2 = some (.inr (8, _)) from (C.choose_spec.1 τ' Fr.rfl).2.2.1)
    have hfn := (fnc hf r1 r2).of z2
    obtain ⟨σ2, m1, m2, m3, -⟩ := mnumbers (b := 0) (only := -1) (by omega) r1'.2.1 (runIn_c r1' hc)
    rw [hp, z1, wt_bd_s, rs_l]
    dsimp only
    rw [if_pos rfl, show dX4_numbers (m_sF σ 0 0) (0 : Int32) (nI i) (-1) = some σ2 from m1, wt_bd_s, wt_ck_t hcr]
    refine wp_ap (crscale (z2.1 hf) C hfn) fun out ⟨o1, o2⟩ => ?_
    rw [wp_some]
    exact ⟨σ2, congrArg (fun z => some (z, σ2)) (m3.trans o1.symm), by rw [m2.1 0 (by simp)]; exact g2, g1.q ((z2.trans o2).ex hf) (mE_Q49 m2)⟩
  · rw [hp, run_n r2 ha, wt_bd_s, rs_r, wp_some]
    dsimp only
    rw [if_neg (by decide)]
    exact ⟨show (1 : Int32) ≠ 0 by decide, 0, _, rfl, g1.s1.2, g1.s1.1⟩
theorem w_scale {lit : Nat → Nat} {x w : Nat} {τ : HP} {σ : MSt} (hf : Wf τ) (h : RR lit x w τ σ) (a : Int32) : wp (eX0_scale τ x a w) (OpR lit x w (dX4_scale σ a)) := wrapH (op_scale hf h a) h.cl fun e he => one_h (c := 0) (k := 101) rfl he
/-! THE PLAIN LAW, 31: counts, the last fault, what is worn, digits -/
set_option maxRecDepth 100000
theorem op_fault {lit : Nat → Nat} {x w : Nat} {τ : HP} {σ : MSt} (h : RR lit x w τ σ) : ∃ v, eX1_fault τ x = some v ∧ dX4_fault σ = some (v, m_sF σ 0 0) ∧ RR lit x w τ (m_sF σ 0 0) := by
  obtain ⟨g1, g2⟩ := h.s0
  obtain ⟨R, r1, r2⟩ := h
  refine ⟨σ.1 3, ?_, ?_, g1⟩
  · unfold eX1_fault
    rw [hgI_of (cs := [0]) (k := 3) r2.1 rfl rfl, wt_bd_s]
  · unfold dX4_fault
    rw [wp_lt_id, sF_1, if_neg (by omega)]
theorem op_count {lit : Nat → Nat} {x w : Nat} {τ : HP} {σ : MSt} (h : RR lit x w τ σ) (a : Int32) : ∃ v, eX1_count τ x a = some v ∧ dX4_count σ a = some (v, m_sF σ 0 0) ∧ RR lit x w τ (m_sF σ 0 0) := by
  obtain ⟨g1, g2⟩ := h.s0
  obtain ⟨R, r1, r2⟩ := h
  obtain ⟨q1, -, ⟨B, sh, ho, co, aa, fs, fh, fc, fa, -, l1, -⟩, ⟨fl, d1, es, hl, d2, hs, sa, g, k1, ⟨k2, k3, -⟩, ⟨k5, k6, -⟩, -⟩, -, ⟨d, ls, s1, s2, -⟩, -⟩ := r2
  obtain ⟨⟨t1, -⟩, -, -, ⟨c1, -, c3, -, c5, -⟩, ⟨-, n2⟩, -, ⟨m1, -⟩, -⟩ := r1
  have e : ∀ j, j ≠ 0 → (m_sF σ 0 0).1 j = σ.1 j := fun j hj => by rw [sF_1, if_neg hj]
  unfold eX1_count dX4_count
  rw [wp_lt_id, e 8 (by omega), e 24 (by omega), e 28 (by omega), e 29 (by omega), e 30 (by omega), e 31 (by omega), e 1 (by omega)]
  by_cases a0 : a = 0
  · rw [if_pos a0, if_pos a0, hgA_of (cs := [0]) (k := 0) q1 rfl rfl, wt_bd_s, hgI_of (cs := [1]) (k := 7) l1 rfl rfl, wt_bd_s]
    exact ⟨_, rfl, rfl, g1⟩
  · rw [if_neg a0, if_neg a0]
    by_cases a1 : a = 1
    · rw [if_pos a1, if_pos a1, hgA_of (cs := [0]) (k := 6) q1 rfl rfl, wt_bd_s, wt_ck_t s1.cl, jsize s1, wt_bd_s, s2]
      exact ⟨_, rfl, by rw [m1], g1⟩
    · rw [if_neg a1, if_neg a1]
      by_cases a2 : a = 2
      · rw [if_pos a2, if_pos a2, hgA_of (cs := [0]) (k := 1) q1 rfl rfl, wt_bd_s, hgA_of (cs := [2]) (k := 0) k1 rfl rfl, wt_bd_s, wt_ck_t k2.cl, jsize k2, wt_bd_s, k3]
        exact ⟨_, rfl, by rw [c1], g1⟩
      · rw [if_neg a2, if_neg a2]
        by_cases a3 : a = 3
        · rw [if_pos a3, if_pos a3, hgA_of (cs := [0]) (k := 1) q1 rfl rfl, wt_bd_s, hgI_of (cs := [2]) (k := 3) k1 rfl rfl, wt_bd_s]
          exact ⟨_, rfl, by rw [c3], g1⟩
        · rw [if_neg a3, if_neg a3]
          by_cases a4 : a = 4
          · rw [if_pos a4, if_pos a4, hgA_of (cs := [0]) (k := 1) q1 rfl rfl, wt_bd_s, hgA_of (cs := [2]) (k := 1) k1 rfl rfl, wt_bd_s, wt_ck_t k5.cl, jsize k5, wt_bd_s, k6]
            exact ⟨_, rfl, by rw [c5], g1⟩
          · rw [if_neg a4, if_neg a4]
            by_cases a5 : a = 5
            · rw [if_pos a5, if_pos a5, hgI_of (cs := [0]) (k := 4) q1 rfl rfl, wt_bd_s]
              exact ⟨_, rfl, by rw [n2], g1⟩
            · rw [if_neg a5, if_neg a5]
              by_cases a6 : a = 6
              · rw [if_pos a6, if_pos a6, hgI_of (cs := [0]) (k := 2) q1 rfl rfl, wt_bd_s]
                exact ⟨_, rfl, by rw [t1], g1⟩
              · rw [if_neg a6, if_neg a6]
                exact ⟨_, rfl, rfl, g1⟩
theorem op_digits {lit : Nat → Nat} {x w : Nat} {τ : HP} {σ : MSt} (hf : Wf τ) (h : RR lit x w τ σ) (a : Int32) : wp (eX1_digits τ x a) (QH lit x w cdS (dX4_digits σ a)) := by
  obtain ⟨g1, g2⟩ := h.s0
  have hcl := h.cl
  obtain ⟨R, r1, r2⟩ := h
  have r1' := r1.Q (mQ.sF (v := 0))
  have ht := r1.2.1.2.2.2.2.1
  unfold eX1_digits dX4_digits
  rw [wt_ck_t hcl, wp_lt_id]
  rcases mst_pre r1 a with ⟨i, c, hc, ha, hi, hp⟩ | ⟨ha, hp⟩
  · subst ha
    obtain ⟨τ', l, z1, z2, C⟩ := run_c hf r1 r2 hc
    have hcr := hcl_of (show τ'.1 τ.2 = some (.inr (8, _)) from (C.choose_spec.1 τ' Fr.rfl).2.2.1)
    have hfn := (fnc hf r1 r2).of z2
    obtain ⟨σ2, m1, m2, -, m4, -⟩ := mnumbers (b := 0) (only := -1) (by omega) r1'.2.1 (runIn_c r1' hc)
    rw [hp, z1, wt_bd_s, rs_l]
    dsimp only
    rw [if_pos rfl, show dX4_numbers (m_sF σ 0 0) (0 : Int32) (nI i) (-1) = some σ2 from m1, wt_bd_s, mdigits m4, wt_bd_s, wt_ck_t hcr]
    refine wp_ap (crnumber (z2.1 hf) C ht hfn) fun out ⟨d, _, _, o1, o2⟩ => ?_
    rw [wt_ck_t o1.cl, gdigits o1, wt_bd_s, wp_some]
    exact ⟨σ2, rfl, by rw [m2.1 0 (by simp)]; exact g2, g1.q ((z2.trans o2).ex hf) (mE_Q49 m2)⟩
  · rw [hp, run_n r2 ha, wt_bd_s, rs_r, wp_some]
    dsimp only
    rw [if_neg (by decide)]
    exact ⟨show (1 : Int32) ≠ 0 by decide, 0, _, rfl, g1.s1.2, g1.s1.1⟩
theorem w_digits {lit : Nat → Nat} {x w : Nat} {τ : HP} {σ : MSt} (hf : Wf τ) (h : RR lit x w τ σ) (a : Int32) : wp (eX0_digits τ x a w) (OpR lit x w (dX4_digits σ a)) := wrapH (op_digits hf h a) h.cl fun e he => one_h (c := 0) (k := 101) rfl he
/-- the component's two checks -/
theorem two_e {β γ : Type} (p h : Int32) : ((Ix p 10 ∧ Ix h 100) ∧ ∀ (Y : Option (Unit ⊕ γ)) (F : Unit ⊕ γ → Option β), (wt_bd (eX1_isPlace p) fun w5 => wt_bd (if w5 = 0 then (some (.inl ())) else (wt_bd (eX1_isHour h) fun w12 => if w12 = 0 then (some (.inl ())) else Y)) F) = wt_bd Y F) ∨
    ((¬ (Ix p 10 ∧ Ix h 100)) ∧ ∀ (Y : Option (Unit ⊕ γ)) (F : Unit ⊕ γ → Option β), (wt_bd (eX1_isPlace p) fun w5 => wt_bd (if w5 = 0 then (some (.inl ())) else (wt_bd (eX1_isHour h) fun w12 => if w12 = 0 then (some (.inl ())) else Y)) F) = F (.inl ())) := by
  rcases isPlace_e (a := p) with ⟨p1, p2⟩ | ⟨p1, p2⟩
  · rcases isHour_e (a := h) with ⟨h1, h2⟩ | ⟨h1, h2⟩
    · exact Or.inl ⟨⟨p1, h1⟩, fun Y F => by rw [p2, wt_bd_s, if_neg (by decide), h2, wt_bd_s, if_neg (by decide)]⟩
    · exact Or.inr ⟨fun z => h1 z.2, fun Y F => by rw [p2, wt_bd_s, if_neg (by decide), h2, wt_bd_s, if_pos rfl, wt_bd_s]⟩
  · exact Or.inr ⟨fun z => p1 z.1, fun Y F => by rw [p2, wt_bd_s, if_pos rfl, wt_bd_s]⟩
theorem op_wears {lit : Nat → Nat} {x w : Nat} {τ : HP} {σ : MSt} (hf : Wf τ) (h : RR lit x w τ σ) (a p hr : Int32) : wp (eX1_wears τ x a p hr) (QH lit x w cdSA (dX4_wears σ a p hr)) := by
  obtain ⟨g1, g2⟩ := h.s0
  have hcl := h.cl
  obtain ⟨R, r1, r2⟩ := h
  have r1' := r1.Q (mQ.sF (v := 0))
  have i0 : Ix (0 : Int32) 10 := ⟨0, by omega, rfl⟩
  unfold eX1_wears dX4_wears
  rw [wt_ck_t hcl, wp_lt_id]
  rcases mst_pre r1 a with ⟨i, c, hc, ha, hi, hp⟩ | ⟨ha, hp⟩
  · subst ha
    obtain ⟨τ', l, z1, z2, C⟩ := run_c hf r1 r2 hc
    have hcr := hcl_of (show τ'.1 τ.2 = some (.inr (8, _)) from (C.choose_spec.1 τ' Fr.rfl).2.2.1)
    rw [hp, z1, wt_bd_s, rs_l]
    dsimp only
    rw [if_pos rfl]
    rcases two_e (β := (Int32 × HP) ⊕ (Nat × Nat × HP)) (γ := (Int32 × HP) ⊕ (Nat × Nat × HP)) p hr with ⟨⟨⟨p', p1, p2⟩, ⟨h', h1, h2⟩⟩, hY⟩ | ⟨hb, hY⟩
    · subst p2 h2
      rw [hY, badPlace_0 g2 ⟨p', p1, rfl⟩ i0 ⟨h', h1, rfl⟩, wt_bd_s]
      dsimp only
      obtain ⟨σ2, m1, m2, -, -, m4⟩ := mpile (p := 0) (s := 0) r1'.2.1 (runIn_c r1' hc) (by omega) (by omega) h1
      rw [need_1, wt_bd_s, rs_l, wt_ck_t hcr, if_pos rfl, m1, wt_bd_s, wt_ck_t (show vp_in (nI p') 10 by rw [vp_nI (by omega)]; exact p1), nI_clamp (by omega), wp_bd, wp_bd]
      refine wp_mono (cat (z2.1 hf) C h1) fun out ⟨la, wa, _, _, _, o4, o5, _⟩ => ?_
      obtain ⟨f, g, k1, k2, k3, k4, k5⟩ := o4
      rw [hgA_of (cs := [9]) (k := 2) k1 rfl rfl, wt_bd_s, haI_of k3, wt_bd_s, wt_ck_t (by rw [vp_nI (by omega)]; exact p1), wp_some, rs_r, wp_some]
      exact ⟨σ2, congrArg (fun z => some (z, σ2)) ((m4 p' p1).trans (k5 p' p1).symm), by rw [m2.1 0 (by simp)]; exact g2, g1.q ((z2.trans o5).ex hf) (mE_Q40 m2)⟩
    · rw [hY, badPlace_1 g2 (by decide) (fun z => hb ⟨z.1, z.2.2⟩), wt_bd_s, rs_l]
      dsimp only
      rw [need_0, wt_bd_s, rs_r, wp_some, if_neg (by decide)]
      exact ⟨show (2 : Int32) ≠ 0 by decide, 0, _, rfl, g1.s1.2, (g1.q (z2.ex hf) mQ.rfl).s1.1⟩
  · rw [hp, run_n r2 ha, wt_bd_s, rs_r, wp_some]
    dsimp only
    rw [if_neg (by decide)]
    exact ⟨show (1 : Int32) ≠ 0 by decide, 0, _, rfl, g1.s1.2, g1.s1.1⟩
theorem w_wears {lit : Nat → Nat} {x w : Nat} {τ : HP} {σ : MSt} (hf : Wf τ) (h : RR lit x w τ σ) (a p hr : Int32) : wp (eX0_wears τ x a p hr w) (OpR lit x w (dX4_wears σ a p hr)) := wrapH (op_wears hf h a p hr) h.cl fun e he => two_h (k := 101) (j := 100) rfl he
