/-! THE PLAIN LAW, 39: what the law tells of a sort -/
set_option maxRecDepth 100000
theorem op_told {lit : Nat → Nat} {x w : Nat} {τ : HP} {σ : MSt} (h : RR lit x w τ σ) (a b : Int32) : wp (eX1_told τ x a b) (QV lit x w cdA τ (dX4_told σ a b)) := by
  obtain ⟨g1, g2⟩ := h.s0
  have mbad : dX4_bad (m_sF σ 0 0) (1 : Int32) (1 : Int32) = some (1, m_sF (m_sF σ 0 0) 0 1) := bad_1 g2 (by decide)
  have g1' := g1
  obtain ⟨R, r1, r2⟩ := g1'
  obtain ⟨q1, -, ⟨B, sh, ho, co, aa, fs, fh, fc, fa, -, l1, -, l3, l4, -, -, l6, l7, -⟩, -⟩ := r2
  have ht := r1.2.1.2.2.2.1
  unfold eX1_told dX4_told
  rw [wp_lt_id, in_e, wt_bd_s, mbad, wt_bd_s]
  dsimp only
  rcases isSort_e (a := a) with ⟨k, k1, k2, k3, k4⟩ | ⟨k1, k2⟩
  · subst k2
    rw [k4, wt_bd_s, if_neg (show ¬ (1 : Int32) = 0 by decide), k3, if_neg (show ¬ (1 : Int32) = 0 by decide), in_e, wt_bd_s]
    rcases rng b 4 (by omega) with ⟨j, j1, j2, j3, -, j4, j5⟩ | ⟨j1, j2⟩
    · subst j2
      rw [if_neg j3, if_neg (show ¬ (4 : Int32) < nI j from j4), need_1, wt_bd_s, rs_l, show mIn (nI j) 0 4 = 1 from j5, if_neg (show ¬ (1 : Int32) = 0 by decide), bad_0 g2, wt_bd_s]
      dsimp only
      have hv : vp_in (nI k) 10 := by rw [vp_nI (by omega)]; exact k1
      have hj : j = 0 ∨ j = 1 ∨ j = 2 ∨ j = 3 ∨ j = 4 := by omega
      rcases hj with z | z | z | z | z <;> subst z
      · rw [if_pos (by decide), hgA_of (cs := [0]) (k := 0) q1 rfl rfl, wt_bd_s, hgA_of (cs := [1]) (k := 1) l1 rfl rfl, wt_bd_s, haI_of l3, wt_bd_s, wt_ck_t (show vp_in (nI k) 10 from hv), wt_bd_s, rs_r, wp_some, if_pos rfl, if_pos (by decide), wt_ck_t hv, nI_clamp (by omega), wt_bd_s, rs_r]
        exact ⟨_, congrArg (fun z => some (z, m_sF σ 0 0)) (l6 k k1).symm, g2, g1⟩
      · rw [if_neg (by decide), if_pos (by decide), hgA_of (cs := [0]) (k := 0) q1 rfl rfl, wt_bd_s, hgA_of (cs := [1]) (k := 2) l1 rfl rfl, wt_bd_s, haI_of l4, wt_bd_s, wt_ck_t (show vp_in (nI k) 10 from hv), wt_bd_s, rs_r, wp_some, if_pos rfl, if_neg (by decide), if_pos (by decide), wt_ck_t hv, nI_clamp (by omega), wt_bd_s, rs_r]
        exact ⟨_, congrArg (fun z => some (z, m_sF σ 0 0)) (l7 k k1).symm, g2, g1⟩
      · rw [if_neg (by decide), if_neg (by decide), if_pos (by decide), hgA_of (cs := [0]) (k := 0) q1 rfl rfl, wt_bd_s, hgI_of (cs := [1]) (k := 4) l1 rfl rfl, wt_bd_s, wt_bd_s, rs_r, wp_some, if_pos rfl, if_neg (by decide), if_neg (by decide), if_pos (by decide), wt_bd_s, rs_r]
        exact ⟨_, rfl, g2, g1⟩
      · rw [if_neg (by decide), if_neg (by decide), if_neg (by decide), if_pos (by decide), hgA_of (cs := [0]) (k := 0) q1 rfl rfl, wt_bd_s, hgI_of (cs := [1]) (k := 5) l1 rfl rfl, wt_bd_s, wt_bd_s, rs_r, wp_some, if_pos rfl, if_neg (by decide), if_neg (by decide), if_neg (by decide), if_pos (by decide), wt_bd_s, rs_r]
        exact ⟨_, rfl, g2, g1⟩
      · rw [if_neg (by decide), if_neg (by decide), if_neg (by decide), if_neg (by decide), hgA_of (cs := [0]) (k := 0) q1 rfl rfl, wt_bd_s, hgI_of (cs := [1]) (k := 6) l1 rfl rfl, wt_bd_s, wt_bd_s, rs_r, wp_some, if_pos rfl, if_neg (by decide), if_neg (by decide), if_neg (by decide), if_neg (by decide), wt_bd_s, rs_r]
        exact ⟨_, congrArg (fun z => some (z, m_sF σ 0 0)) r1.2.1.2.2.2.1, g2, g1⟩
    · have ec : ∀ y : Option (Unit ⊕ (Int32 ⊕ (Nat × Nat × HP))), (if b < 0 then (some (.inl ())) else (if (4 : Int32) < b then (some (.inl ())) else y)) = some (.inl ()) := fun y => by
        rcases j2 with z | ⟨z, -, z2⟩
        · rw [if_pos z]
        · rw [if_neg z, if_pos (show (4 : Int32) < b from z2)]
      rw [ec, wt_bd_s, rs_l, need_0, wt_bd_s, rs_r, wp_some, show mIn b 0 4 = 0 from j1, if_pos rfl, wt_bd_s, rs_l, if_neg (by decide)]
      exact ⟨show (1 : Int32) ≠ 0 by decide, 0, _, rfl, g1.s1.2, g1.s1.1⟩
  · rw [k2, wt_bd_s, if_pos rfl, wt_bd_s, rs_l, need_0, wt_bd_s, rs_r, wp_some, k1, if_pos rfl, wt_bd_s, rs_l, if_neg (by decide)]
    exact ⟨show (1 : Int32) ≠ 0 by decide, 0, _, rfl, g1.s1.2, g1.s1.1⟩
theorem w_told {lit : Nat → Nat} {x w : Nat} {τ : HP} {σ : MSt} (h : RR lit x w τ σ) (a b : Int32) : wp (eX0_told τ x a b w) (OpR lit x w (dX4_told σ a b)) := wrapV (op_told h a b) h.cl fun e he => one_h (c := 0) (k := 100) rfl he
