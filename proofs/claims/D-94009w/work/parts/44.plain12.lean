/-! THE PLAIN LAW, 35: two stories' numbers against each other -/
set_option maxRecDepth 100000
theorem stScl_le {σ : MSt} {al : Nat → Int32} {t nf st m : Nat} {kp : Nat → Bool} {mo : Option (Nat × Nat × Nat)} {sel : Nat → Bool} (hL : MLaw σ al t nf) (hR : RunIn σ st m kp mo) : ∀ n, n ≤ nf → nScl (stPl σ al (stR σ st m kp mo)) sel n ≤ 60 * n := by
  obtain ⟨l1, l2, l3, l4, l5, l6, l7, l8⟩ := hL
  intro n
  induction n with
  | zero => intro _; exact Nat.le_refl _
  | succ n ih =>
    intro hn
    rw [nScl_s]
    have h1 := ih (by omega)
    have h2 : stPl σ al (stR σ st m kp mo) n ≤ 60 := (fPile_le (al := al) (l8 n (by omega)) l3 (fun h => stR_B hR l2 h)).1
    split <;> omega
theorem mE_SF {σ σ' : MSt} (h : mE [49] [40] [39, 48] σ σ') : mE [0, 41, 42, 43, 44, 45, 46, 47, 49] [40] [39, 48] σ σ' := h.wide (by simp) (by simp) (by simp)
/-- a story's numbers are the same when only scratch was written -/
theorem stR_E {σ σ' : MSt} {st m : Nat} {kp : Nat → Bool} {mo : Option (Nat × Nat × Nat)} (h : mE [49] [40] [39, 48] σ σ') : stR σ' st m kp mo = stR σ st m kp mo := by
  have elw : lwOf σ' = lwOf σ := by
    unfold lwOf
    rw [h.1 9 (by simp), h.1 10 (by simp), h.2.2 12 (by simp), h.2.1 13 (by simp)]
  unfold stR
  rw [elw, h.2.2 26 (by simp)]
theorem stPl_E {σ σ' : MSt} {al : Nat → Int32} {R : Nat → Sc} (h : mE [49] [40] [39, 48] σ σ') : stPl σ' al R = stPl σ al R := by
  funext f
  unfold stPl
  rw [h.2.1 14 (by simp), h.2.2 32 (by simp)]
theorem stMn_E {σ σ' : MSt} (h : mE [49] [40] [39, 48] σ σ') : stMn σ' = stMn σ := by
  funext f
  unfold stMn
  rw [h.2.2 32 (by simp)]
/-- the model's two numbers, brought to the same scale -/
theorem mtwo {σ : MSt} {al : Nat → Int32} {t nf st1 m1 st2 m2 : Nat} {kp1 kp2 : Nat → Bool} {mo1 mo2 : Option (Nat × Nat × Nat)} {only : Int32} (hL : MLaw σ al t nf) (hA : RunIn σ st1 m1 kp1 mo1) (hB : RunIn σ st2 m2 kp2 mo2) :
    wp (dX4_two σ (nI st1) (nI st2) only) (fun σ' => mE [49] [40] [39, 48] σ σ' ∧
      Bg (σ'.2.2 48 0) (nNum (stPl σ al (stR σ st1 m1 kp1 mo1)) (stMn σ) t (selO only) nf * 16 ^ nScl (stPl σ al (stR σ st2 m2 kp2 mo2)) (selO only) nf) ∧
      Bg (σ'.2.2 48 1) (nNum (stPl σ al (stR σ st2 m2 kp2 mo2)) (stMn σ) t (selO only) nf * 16 ^ nScl (stPl σ al (stR σ st1 m1 kp1 mo1)) (selO only) nf)) := by
  have ht := hL.2.2.2.2.1
  have hnf := hL.2.2.2.2.2.2.1
  have sA := stScl_le (sel := selO only) hL hA nf (Nat.le_refl _)
  have sB := stScl_le (sel := selO only) hL hB nf (Nat.le_refl _)
  unfold dX4_two
  refine wp_ap (mnumbers (b := 0) (only := only) (by omega) hL hA) fun s1 ⟨a1, a2, a3, a4⟩ => ?_
  rw [wp_lt, a2]
  refine wp_ap (mnumbers (b := 1) (only := only) (by omega) (hL.E (mE_SF a1)) (hB.E (a1.wide (by simp) (by simp) (by simp)))) fun s2 ⟨b1, b2, b3, b4⟩ => ?_
  rw [stR_E a1, stPl_E a1] at b2 b3
  rw [stMn_E a1] at b3
  rw [b2]
  have a3' := a3
  rw [← b4 0 (by omega)] at a3'
  refine wp_ap (mlevels (by omega) (by omega) a3' b3 (nNum_le ht nf) (nNum_le ht nf)) fun s3 ⟨c1, c2, c3, c4⟩ => ?_
  rw [wp_some]
  exact ⟨(a1.trans b1).trans (c1.wide (by simp) (by simp) (by simp)), c3, c4⟩
theorem mworthOf {σ : MSt} {al : Nat → Int32} {t nf st1 m1 st2 m2 : Nat} {kp1 kp2 : Nat → Bool} {mo1 mo2 : Option (Nat × Nat × Nat)} {only : Int32} (hL : MLaw σ al t nf) (hA : RunIn σ st1 m1 kp1 mo1) (hB : RunIn σ st2 m2 kp2 mo2) :
    wp (dX4_worthOf σ (nI st1) (nI st2) only) (fun r => mE [49] [40] [39, 48] σ r.2 ∧ r.1 = nI (wNow (nNum (stPl σ al (stR σ st1 m1 kp1 mo1)) (stMn σ) t (selO only) nf * 16 ^ nScl (stPl σ al (stR σ st2 m2 kp2 mo2)) (selO only) nf) (nNum (stPl σ al (stR σ st2 m2 kp2 mo2)) (stMn σ) t (selO only) nf * 16 ^ nScl (stPl σ al (stR σ st1 m1 kp1 mo1)) (selO only) nf))) := by
  have ht := hL.2.2.2.2.1
  have hnf := hL.2.2.2.2.2.2.1
  have sA := stScl_le (sel := selO only) hL hA nf (Nat.le_refl _)
  have sB := stScl_le (sel := selO only) hL hB nf (Nat.le_refl _)
  unfold dX4_worthOf
  refine wp_ap (mtwo hL hA hB) fun s1 ⟨a1, a2, a3⟩ => ?_
  have hM : nNum (stPl σ al (stR σ st2 m2 kp2 mo2)) (stMn σ) t (selO only) nf * 16 ^ nScl (stPl σ al (stR σ st1 m1 kp1 mo1)) (selO only) nf ≤ 16 ^ 960 := by
    refine Nat.le_trans (Nat.mul_le_mul (nNum_le ht nf) (Nat.le_refl _)) ?_
    rw [← Nat.pow_add]
    exact Nat.pow_le_pow_right (by omega) (by omega)
  refine wp_ap (mworth a2 a3 hM) fun r ⟨b1, b2, b3⟩ => ?_
  rw [wp_some]
  exact ⟨a1.trans (b2.wide (by simp) (by simp) (by simp)), b1⟩
/-! THE PLAIN LAW, 36: what one story is worth against another -/
set_option maxRecDepth 100000
theorem mst_two {R : RS} {σ : MSt} (hM : RM R σ) (a b : Int32) : (∃ (i : Nat) (c : List (Nat × Nat × Nat × Nat)) (j : Nat) (d : List (Nat × Nat × Nat × Nat)), R.cs[i]? = some c ∧ a = nI i ∧ R.cs[j]? = some d ∧ b = nI j ∧ ∀ {β γ : Type} (G : Int32 × MSt → Option (Unit ⊕ γ)) (H : Unit ⊕ γ → Option β), (wt_bd (dX4_isStory (m_sF σ 0 0) a) fun w2 => wt_bd (if w2 = 0 then (some (.inl ())) else (wt_bd (dX4_isStory (m_sF σ 0 0) b) fun w9 => if w9 = 0 then (some (.inl ())) else (wt_bd (dX4_bad (m_sF σ 0 0) (0 : Int32) (1 : Int32)) G))) H) = wt_bd (G (0, m_sF σ 0 0)) H) ∨
    (((a < 0 ∨ (¬ a < 0 ∧ ¬ a < nI R.cs.length)) ∨ (∃ (i : Nat) (c : List (Nat × Nat × Nat × Nat)), R.cs[i]? = some c ∧ a = nI i ∧ (b < 0 ∨ (¬ b < 0 ∧ ¬ b < nI R.cs.length)))) ∧ ∀ {β γ : Type} (G : Int32 × MSt → Option (Unit ⊕ γ)) (H : Unit ⊕ γ → Option β), (wt_bd (dX4_isStory (m_sF σ 0 0) a) fun w2 => wt_bd (if w2 = 0 then (some (.inl ())) else (wt_bd (dX4_isStory (m_sF σ 0 0) b) fun w9 => if w9 = 0 then (some (.inl ())) else (wt_bd (dX4_bad (m_sF σ 0 0) (0 : Int32) (1 : Int32)) G))) H) = H (.inl ())) := by
  obtain ⟨-, -, -, -, -, -, ⟨s1, s2, -⟩, -⟩ := hM
  have h24 : (m_sF σ 0 0).1 24 = nI R.cs.length := by rw [sF_1, if_neg (by omega)]; exact s1
  have h0 : (m_sF σ 0 0).1 0 = 0 := by rw [sF_1, if_pos rfl]
  rcases rngS a R.cs.length (by omega) with ⟨k, k1, k2, k3, k4, k5⟩ | ⟨k1, k2⟩
  · rcases rngS b R.cs.length (by omega) with ⟨j, j1, j2, j3, j4, j5⟩ | ⟨j1, j2⟩
    · refine Or.inl ⟨k, R.cs[k], j, R.cs[j], List.getElem?_eq_getElem k1, k2, List.getElem?_eq_getElem j1, j2, fun G H => ?_⟩
      rw [isStory_e, wt_bd_s, h24, k5, if_neg (by decide), isStory_e, wt_bd_s, h24, j5, if_neg (by decide), bad_0 h0, wt_bd_s]
    · refine Or.inr ⟨Or.inr ⟨k, R.cs[k], List.getElem?_eq_getElem k1, k2, j2⟩, fun G H => ?_⟩
      rw [isStory_e, wt_bd_s, h24, k5, if_neg (by decide), isStory_e, wt_bd_s, h24, j1, if_pos rfl, wt_bd_s]
  · refine Or.inr ⟨Or.inl k2, fun G H => ?_⟩
    rw [isStory_e, wt_bd_s, h24, k1, if_pos rfl, wt_bd_s]
theorem RnC.mono {τ0 : HP} {B B' r sl o lw m : Nat} {w : LW} {cm al : Nat → Int32} {tk cl : Int32} {ev : Nat → Nat → Int32} {lo fi se th : Int32} {mo : Option (Nat × Nat × Nat)} (h : RnC τ0 B r sl o lw m w cm al tk cl ev lo fi se th mo) (hB : B ≤ B') (hB' : B' ≤ τ0.2) : RnC τ0 B' r sl o lw m w cm al tk cl ev lo fi se th mo := by
  obtain ⟨mv, K, -, h3⟩ := h
  refine ⟨mv, fun t hF => ?_, hB', h3⟩
  obtain ⟨⟨sh, ho, co, aa, fs, fh, fc, fa, ⟨b1, b2, b3, b4, b5⟩, k⟩, ⟨d, es, s1, s2, s3, s4, s5⟩, k3⟩ := K t hF
  refine ⟨⟨sh, ho, co, aa, fs, fh, fc, fa, ⟨by omega, by omega, by omega, by omega, by omega⟩, k⟩, ⟨d, es, s1, s2, by omega, by omega, fun k hk => ?_⟩, k3⟩
  obtain ⟨a, a1, a2, a3⟩ := s5 k hk
  exact ⟨a, a1, by omega, a3⟩
theorem op_worth {lit : Nat → Nat} {x w : Nat} {τ : HP} {σ : MSt} (hf : Wf τ) (h : RR lit x w τ σ) (a b : Int32) : wp (eX1_worth τ x a b) (QH lit x w cdS (dX4_worth σ a b)) := by
  obtain ⟨g1, g2⟩ := h.s0
  have hcl := h.cl
  obtain ⟨R, r1, r2⟩ := h
  have r1' := r1.Q (mQ.sF (v := 0))
  have ht := r1.2.1.2.2.2.2.1
  have mbad : dX4_bad (m_sF σ 0 0) (1 : Int32) (1 : Int32) = some (1, m_sF (m_sF σ 0 0) 0 1) := bad_1 g2 (by decide)
  unfold eX1_worth dX4_worth
  rw [wt_ck_t hcl, wp_lt_id]
  rcases mst_two r1 a b with ⟨i, c, j, d, hc, ha, hd, hb, hp⟩ | ⟨hbad, hp⟩
  · subst ha hb
    obtain ⟨τ1, l1, z1, F1, C1⟩ := run_c hf r1 r2 hc
    have hf1 := F1.1 hf
    have r21 := r2.ex (F1.ex hf)
    obtain ⟨τ2, l2, z2, F2, C2⟩ := run_c hf1 r1 r21 hd
    have hf2 := F2.1 hf1
    have C1' := (C1.of F2).mono (B' := τ1.2) F1.2.1 F2.2.1
    have hfn := (fnc hf1 r1 r21).of F2
    obtain ⟨⟨v, σ2⟩, m1, m2, m3⟩ := mworthOf (only := -1) r1'.2.1 (runIn_c r1' hc) (runIn_c r1' hd)
    rw [hp, z1, wt_bd_s, rs_l]
    dsimp only at m2 m3 ⊢
    rw [if_pos rfl, m1, wt_bd_s, wt_bd_s, rs_r, wt_ck_t (hcl_of r21.1), z2, wt_bd_s, rs_l]
    dsimp only
    refine wp_ap (cworthOf hf2 C1' C2 ht hfn) fun out ⟨o1, o2⟩ => ?_
    rw [wp_some]
    exact ⟨σ2, congrArg (fun z => some (z, σ2)) (m3.trans o1.symm), by rw [m2.1 0 (by simp)]; exact g2, g1.q (((F1.trans F2).trans o2).ex hf) (mE_Q49 m2)⟩
  · rw [hp, rs_l, mbad, wt_bd_s]
    dsimp only
    rw [if_neg (by decide)]
    rcases hbad with ha | ⟨i, c, hc, ha, hb⟩
    · rw [run_n r2 ha, wt_bd_s, rs_r, wp_some]
      exact ⟨show (1 : Int32) ≠ 0 by decide, 0, _, rfl, g1.s1.2, g1.s1.1⟩
    · subst ha
      obtain ⟨τ1, l1, z1, F1, C1⟩ := run_c hf r1 r2 hc
      have r21 := r2.ex (F1.ex hf)
      rw [z1, wt_bd_s, rs_l]
      dsimp only
      rw [wt_ck_t (hcl_of r21.1), run_n r21 hb, wt_bd_s, rs_r, wp_some]
      exact ⟨show (1 : Int32) ≠ 0 by decide, 0, _, rfl, g1.s1.2, (g1.q (F1.ex hf) mQ.rfl).s1.1⟩
theorem w_worth {lit : Nat → Nat} {x w : Nat} {τ : HP} {σ : MSt} (hf : Wf τ) (h : RR lit x w τ σ) (a b : Int32) : wp (eX0_worth τ x a b w) (OpR lit x w (dX4_worth σ a b)) := wrapH (op_worth hf h a b) h.cl fun e he => one_h (c := 0) (k := 101) rfl he
/-! THE PLAIN LAW, 37: two stories weighed -/
set_option maxRecDepth 100000
theorem GR.ex {τ τ' : HP} {g d N : Nat} (h : GR τ g d N) (hX : Ex τ τ') : GR τ' g d N := by
  obtain ⟨f, sz, ⟨p1, p2, p3⟩, p4⟩ := h
  exact ⟨f, sz, ⟨hX _ _ p1, hX _ _ p2, p3⟩, p4⟩
theorem op_weighed {lit : Nat → Nat} {x w : Nat} {τ : HP} {σ : MSt} (hf : Wf τ) (h : RR lit x w τ σ) (a b : Int32) : wp (eX1_weighed τ x a b) (QH lit x w cdS (dX4_weighed σ a b)) := by
  obtain ⟨g1, g2⟩ := h.s0
  have hcl := h.cl
  obtain ⟨R, r1, r2⟩ := h
  have r1' := r1.Q (mQ.sF (v := 0))
  have ht := r1.2.1.2.2.2.2.1
  have mbad : dX4_bad (m_sF σ 0 0) (1 : Int32) (1 : Int32) = some (1, m_sF (m_sF σ 0 0) 0 1) := bad_1 g2 (by decide)
  unfold eX1_weighed dX4_weighed
  rw [wt_ck_t hcl, wp_lt_id]
  rcases mst_two r1 a b with ⟨i, c, j, d, hc, ha, hd, hb, hp⟩ | ⟨hbad, hp⟩
  · subst ha hb
    obtain ⟨τ1, l1, z1, F1, C1⟩ := run_c hf r1 r2 hc
    have hf1 := F1.1 hf
    have r21 := r2.ex (F1.ex hf)
    obtain ⟨τ2, l2, z2, F2, C2⟩ := run_c hf1 r1 r21 hd
    have hf2 := F2.1 hf1
    have C1' := (C1.of F2).mono (B' := τ1.2) F1.2.1 F2.2.1
    have hfn := (fnc hf1 r1 r21).of F2
    obtain ⟨σ2, m1, m2, m3, m4⟩ := mtwo (only := -1) r1'.2.1 (runIn_c r1' hc) (runIn_c r1' hd)
    rw [hp, z1, wt_bd_s, rs_l]
    dsimp only
    rw [if_pos rfl, m1, wt_bd_s, show dX4_compare σ2 (0 : Int32) (1 : Int32) = _ from mcompare (a := 0) (b := 1) (by omega) (by omega) m3 m4, wt_bd_s, wt_bd_s, rs_r, wt_ck_t (hcl_of r21.1), z2, wt_bd_s, rs_l]
    dsimp only
    refine wp_ap (cscaled (only := -1) hf2 C1' C2 ht hfn) fun o1 ⟨d1, _, _, k1, k2⟩ => ?_
    have hf3 := k2.1 hf2
    refine wp_ap (cscaled (only := -1) hf3 (C2.of k2) (C1'.of k2) ht (hfn.of k2)) fun o2 ⟨d2, _, _, k3, k4⟩ => ?_
    have k1' := k1.ex (k4.ex hf3)
    rw [wt_ck_t k1'.cl, gcompare k1' k3, wt_bd_s, wp_some]
    exact ⟨σ2, rfl, by rw [m2.1 0 (by simp)]; exact g2, g1.q ((((F1.trans F2).trans k2).trans k4).ex hf) (mE_Q49 m2)⟩
  · rw [hp, rs_l, mbad, wt_bd_s]
    dsimp only
    rw [if_neg (by decide)]
    rcases hbad with ha | ⟨i, c, hc, ha, hb⟩
    · rw [run_n r2 ha, wt_bd_s, rs_r, wp_some]
      exact ⟨show (1 : Int32) ≠ 0 by decide, 0, _, rfl, g1.s1.2, g1.s1.1⟩
    · subst ha
      obtain ⟨τ1, l1, z1, F1, C1⟩ := run_c hf r1 r2 hc
      have r21 := r2.ex (F1.ex hf)
      rw [z1, wt_bd_s, rs_l]
      dsimp only
      rw [wt_ck_t (hcl_of r21.1), run_n r21 hb, wt_bd_s, rs_r, wp_some]
      exact ⟨show (1 : Int32) ≠ 0 by decide, 0, _, rfl, g1.s1.2, (g1.q (F1.ex hf) mQ.rfl).s1.1⟩
theorem w_weighed {lit : Nat → Nat} {x w : Nat} {τ : HP} {σ : MSt} (hf : Wf τ) (h : RR lit x w τ σ) (a b : Int32) : wp (eX0_weighed τ x a b w) (OpR lit x w (dX4_weighed σ a b)) := wrapH (op_weighed hf h a b) h.cl fun e he => one_h (c := 0) (k := 101) rfl he
