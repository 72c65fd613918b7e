/-! THE PLAIN LAW, 38: what is said of two stories -/
set_option maxRecDepth 100000
theorem said3 (v : Int32) {β : Type} (A B C D : β) : (if v < (1000000 : Int32) then (if v < (1000 : Int32) then (if v < (10 : Int32) then A else B) else C) else D) = (if (10 : Int32) ≤ v then (if (1000 : Int32) ≤ v then (if (1000000 : Int32) ≤ v then D else C) else B) else A) := by
  have c1 : ∀ k : Int32, (v < k) = ¬ (k ≤ v) := fun k => by
    rw [i_lt, i_le]
    exact propext ⟨fun z => by omega, fun z => by omega⟩
  have t1 : (10 : Int32).toInt = 10 := by decide
  have t2 : (1000 : Int32).toInt = 1000 := by decide
  have t3 : (1000000 : Int32).toInt = 1000000 := by decide
  by_cases q3 : (1000000 : Int32) ≤ v
  · have q2 : (1000 : Int32) ≤ v := by rw [i_le] at q3 ⊢; omega
    have q1 : (10 : Int32) ≤ v := by rw [i_le] at q3 ⊢; omega
    rw [if_neg (by rw [c1]; exact fun z => z q3), if_pos q1, if_pos q2, if_pos q3]
  · rw [if_pos (by rw [c1]; exact q3)]
    by_cases q2 : (1000 : Int32) ≤ v
    · have q1 : (10 : Int32) ≤ v := by rw [i_le] at q2 ⊢; omega
      rw [if_neg (by rw [c1]; exact fun z => z q2), if_pos q1, if_pos q2, if_neg q3]
    · rw [if_pos (by rw [c1]; exact q2)]
      by_cases q1 : (10 : Int32) ≤ v
      · rw [if_neg (by rw [c1]; exact fun z => z q1), if_pos q1, if_neg q2]
      · rw [if_pos (by rw [c1]; exact q1), if_neg q1]
def sayN (v : Int32) : Int32 := if (10 : Int32) ≤ v then (if (1000 : Int32) ≤ v then (if (1000000 : Int32) ≤ v then 3 else 2) else 1) else 0
theorem sayN_f {v : Int32} {α : Type} (f : Int32 → α) : (if (10 : Int32) ≤ v then (if (1000 : Int32) ≤ v then (if (1000000 : Int32) ≤ v then f 3 else f 2) else f 1) else f 0) = f (sayN v) := by
  unfold sayN
  by_cases q1 : (10 : Int32) ≤ v
  · rw [if_pos q1, if_pos q1]
    by_cases q2 : (1000 : Int32) ≤ v
    · rw [if_pos q2, if_pos q2]
      by_cases q3 : (1000000 : Int32) ≤ v
      · rw [if_pos q3, if_pos q3]
      · rw [if_neg q3, if_neg q3]
    · rw [if_neg q2, if_neg q2]
  · rw [if_neg q1, if_neg q1]
theorem op_said {lit : Nat → Nat} {x w : Nat} {τ : HP} {σ : MSt} (hf : Wf τ) (h : RR lit x w τ σ) (a b : Int32) : wp (eX1_said τ x a b) (QH lit x w cdS (dX4_said σ a b)) := by
  obtain ⟨g1, g2⟩ := h.s0
  have hcl := h.cl
  obtain ⟨R, r1, r2⟩ := h
  have r1' := r1.Q (mQ.sF (v := 0))
  have ht := r1.2.1.2.2.2.2.1
  have mbad : dX4_bad (m_sF σ 0 0) (1 : Int32) (1 : Int32) = some (1, m_sF (m_sF σ 0 0) 0 1) := bad_1 g2 (by decide)
  unfold eX1_said dX4_said
  rw [wt_ck_t hcl, wp_lt_id]
  rcases mst_two r1 a b with ⟨i, c, j, d, hc, ha, hd, hb, hp⟩ | ⟨hbad, hp⟩
  · subst ha hb
    obtain ⟨τ1, l1, z1, F1, C1⟩ := run_c hf r1 r2 hc
    have hf1 := F1.1 hf
    have r21 := r2.ex (F1.ex hf)
    obtain ⟨τ2, l2, z2, F2, C2⟩ := run_c hf1 r1 r21 hd
    have hf2 := F2.1 hf1
    have C1' := (C1.of F2).mono (B' := τ1.2) F1.2.1 F2.2.1
    have hfn := (fnc hf1 r1 r21).of F2
    obtain ⟨⟨v, σ2⟩, m1, m2, m3⟩ := mworthOf (only := -1) r1'.2.1 (runIn_c r1' hc) (runIn_c r1' hd)
    rw [hp, z1, wt_bd_s, rs_l]
    dsimp only at m2 m3 ⊢
    rw [if_pos rfl, m1, wt_bd_s]
    dsimp only
    rw [sayN_f (fun q => some (Sum.inr (q, σ2) : Unit ⊕ (Int32 × MSt))), wt_bd_s, rs_r, wt_ck_t (hcl_of r21.1), z2, wt_bd_s, rs_l]
    dsimp only
    refine wp_ap (cworthOf hf2 C1' C2 ht hfn) fun out ⟨o1, o2⟩ => ?_
    have e : out.1 = v := o1.trans m3.symm
    rw [e, said3, sayN_f (fun q => some (Sum.inl (q, out.2) : (Int32 × HP) ⊕ (Nat × Nat × HP))), wp_some]
    exact ⟨σ2, rfl, by rw [m2.1 0 (by simp)]; exact g2, g1.q (((F1.trans F2).trans o2).ex hf) (mE_Q49 m2)⟩
  · rw [hp, rs_l, mbad, wt_bd_s]
    dsimp only
    rw [if_neg (by decide)]
    rcases hbad with ha | ⟨i, c, hc, ha, hb⟩
    · rw [run_n r2 ha, wt_bd_s, rs_r, wp_some]
      exact ⟨show (1 : Int32) ≠ 0 by decide, 0, _, rfl, g1.s1.2, g1.s1.1⟩
    · subst ha
      obtain ⟨τ1, l1, z1, F1, C1⟩ := run_c hf r1 r2 hc
      have r21 := r2.ex (F1.ex hf)
      rw [z1, wt_bd_s, rs_l]
      dsimp only
      rw [wt_ck_t (hcl_of r21.1), run_n r21 hb, wt_bd_s, rs_r, wp_some]
      exact ⟨show (1 : Int32) ≠ 0 by decide, 0, _, rfl, g1.s1.2, (g1.q (F1.ex hf) mQ.rfl).s1.1⟩
theorem w_said {lit : Nat → Nat} {x w : Nat} {τ : HP} {σ : MSt} (hf : Wf τ) (h : RR lit x w τ σ) (a b : Int32) : wp (eX0_said τ x a b w) (OpR lit x w (dX4_said σ a b)) := wrapH (op_said hf h a b) h.cl fun e he => one_h (c := 0) (k := 101) rfl he
