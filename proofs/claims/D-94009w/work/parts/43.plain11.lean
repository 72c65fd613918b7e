/-! THE PLAIN LAW, 34: the law op on both sides -/
set_option maxRecDepth 100000
set_option maxHeartbeats 1000000 in
theorem op_law {lit : Nat → Nat} {x w : Nat} {τ : HP} {σ : MSt} (hf : Wf τ) (h : RR lit x w τ σ) (a : Int32) : wp (eX1_law lit τ x a) (QH lit x w cdA (dX4_law σ a)) := by
  obtain ⟨g1, g2⟩ := h.s0
  obtain ⟨R, r1, r2⟩ := h
  have htd := r1.1.2.1
  have q1 := r2.1
  unfold eX1_law
  rcases rng a R.td (by omega) with ⟨n, n1, n2, n3, n4, n5, n6⟩ | ⟨n1, n2⟩
  · subst n2
    obtain ⟨o, m1, m2⟩ := mlaw_e r1.1 n1
    rw [m1, if_neg n3, hgI_of (cs := [0]) (k := 2) q1 rfl rfl, wt_bd_s, if_neg n5, need_1, wt_bd_s, rs_l]
    obtain ⟨t1, e1, c1, z1, w1, s1⟩ := r2.h3 (v := -1)
    rw [e1, wt_bd_s]
    have f1 := w1 hf
    obtain ⟨t2, e2, rd2, F2⟩ := rd_new (tp := R.tp) (n := n) f1
    rw [wp_lt_id] at e2
    have c1n := c1.ex (Fr.ex (Fr.new (x := .inr (3, [.null, .int 0, .int 0, .int 0])) (W := [])) f1)
    rw [wp_lt_id, hgA_of (cs := [0]) (k := 5) c1n.1 rfl rfl, wt_bd_s, e2, wt_bd_s, wt_ck_t (hcl_of rd2), wp_bd]
    have c2 := c1.ex (F2.ex f1)
    have f2 := F2.1 f1
    refine wp_ap (claw f2 rd2 c2.2.1 (by omega) c2.2.2.2.2.2.2.2.1) fun out hq => ?_
    have hlo := fun l hl => (pLaw_ok (tx := R.tx) (n := n) 25 0 (skB R.tx n 0) l (skB_le (tx := R.tx) (Nat.zero_le n)).2 hl).1
    revert m2 hq hlo
    cases pLaw R.tx n 25 0 (skB R.tx n 0) with
    | inl e =>
      cases out with
      | inl v => intro _ z; exact z.elim
      | inr xx =>
        rintro ⟨v1, v2, v3, v4, v5, v6, v7⟩ ⟨k1, k2, k3⟩ -
        obtain ⟨xc, ad, t3⟩ := xx
        dsimp only at k1 k2 k3
        subst k1
        have F13 : Fr [] t1 t3 := F2.then k3 fun q hq => Or.inr (by
          have : q = t1.2 := by simpa using hq
          omega)
        have c3 := c1.ex (F13.ex f1)
        obtain ⟨fs, y1, y2, y3⟩ := k2
        have hadx : ad ≠ x := fun z => by
          rw [z, c3.1] at y1
          simp at y1
        obtain ⟨t4, e4, c4, z4, w4, s4⟩ := c3.h3 (v := nI e.2)
        obtain ⟨t5, e5, c5, z5, w5, s5⟩ := c4.h2
        rw [rs_r]
        dsimp only
        rw [wt_ck_t (by trivial), hgI_of (cs := [4]) (k := 7) y1 rfl y3, wt_bd_s, e4, wt_bd_s, hgI_of (cs := [4]) (k := 6) ((s4 ad hadx).trans y1) rfl y2, wt_bd_s, wp_lt, e5, wt_bd_s, wp_some, rs_r, wp_some]
        have elw : lwOf o.2 = lwOf σ := by
          unfold lwOf
          rw [v7.1 9 (by simp), v7.1 10 (by simp), v7.2.2 12 (by simp), v7.2.1 13 (by simp)]
        have hL := r1.2.1.eq elw (v7.2.1 14 (by simp)) (v7.2.1 15 (by simp)) (v7.1 11 (by simp)) (v7.1 28 (by simp)) (v7.2.2 32 (by simp))
        have hT : Tp o.2 R.tx 0 := ⟨v5, by omega, by rw [v7.2.1 7 (by simp)]; exact r1.1.2.2⟩
        refine ⟨o.2, by rw [← v1], v4, _, r1.keep (lw' := R.lw) hT hL (v7.wide (by simp) (by simp) (by simp)), ?_⟩
        rw [elw, v7.2.1 14 (by simp), v7.1 8 (by simp), v6]
        exact c5
    | inr l =>
      cases out with
      | inr xx => intro _ z; exact z.elim
      | inl v =>
        rintro ⟨v1, v2, v3, v4, v5, v6, v7, v8, v9, v10, v11⟩ ⟨⟨sh, ho, co, aa, al', b, lx⟩, k3⟩ hlo
        obtain ⟨lw', t3⟩ := v
        dsimp only at lx k3 b
        have F13 : Fr [] t1 t3 := F2.then k3 fun q hq => Or.inr (by
          have : q = t1.2 := by simpa using hq
          omega)
        have c3 := c1.ex (F13.ex f1)
        have f3 := F13.1 f1
        have hD := DOk_rd l mZ 0 (hlo l rfl) DOk_Z
        obtain ⟨d1, d2, ⟨t', d3, d4⟩, d5, d6⟩ := hD
        have hL0 : ∃ B, LwR t3 B lw' (lwOf o.2) (o.2.2.1 14) al' (nI t') (nI l.length) := lx.lwr f3 v6 v7 d4 (fun s hs => ⟨(v9 s hs).1, (v9 s hs).2.1⟩) v10
        have hAL : AL (o.2.2.1 15) al' := by
          obtain ⟨_, _, _, _, -, -, -, -, -, -, -, -, -, -, z⟩ := lx
          exact z.cong (fun i hi => (v9 i hi).2.2) (fun i _ => rfl)
        obtain ⟨t4, e4, c4, z4, w4, s4⟩ := c3.h0 hL0
        obtain ⟨t5, e5, c5, z5, w5, s5⟩ := c4.h2
        have row : hgI t4 lw' [1] 7 = some (nI l.length) := by
          obtain ⟨B, sh, ho, co, aa, fs, fh, fc, fa, -, k, -⟩ := c4.2.2.1
          exact hgI_of (cs := [1]) (k := 7) k rfl rfl
        rw [rs_l]
        dsimp only
        rw [e4, wt_bd_s, hgA_of (cs := [0]) (k := 0) c4.1 rfl rfl, wt_bd_s, row, wt_bd_s, e5, wt_bd_s, wp_some, rs_r, wp_some]
        have hB : LwB (lwOf o.2) := ⟨by show In (o.2.1 9) 16; rw [v6]; exact d1, by show In (o.2.1 10) 8; rw [v7]; exact d2, fun g s hg hs => by show In (o.2.2.2 12 g s) 200; rw [v10 g s hg hs]; exact d6 g s hg hs, fun s hs => by show In (o.2.2.1 13 s) 16; rw [(v9 s hs).1]; exact (d5 s hs).1⟩
        obtain ⟨-, -, -, -, -, l6, l7, l8⟩ := r1.2.1
        have hL : MLaw o.2 al' t' R.S.nf := ⟨hAL, hB, fun k hk => by rw [(v9 k hk).2.1]; exact (d5 k hk).2, v8.trans d4, d3, by rw [v11.1 28 (by simp)]; exact l6, l7, by rw [v11.2.2 32 (by simp)]; exact l8⟩
        have hT : Tp o.2 R.tx 0 := ⟨v3, by omega, by rw [v11.2.1 7 (by simp)]; exact r1.1.2.2⟩
        refine ⟨o.2, by rw [← v1], v2, _, r1.keep (lw' := lw') hT hL (v11.wide (by simp) (by simp) (by simp)), ?_⟩
        rw [v5, v4]
        exact c5
  · have eb : ∀ Y : Option (Unit ⊕ ((Int32 × HP) ⊕ (Nat × Nat × HP))), (if a < 0 then (some (.inl ())) else (wt_bd (hgI τ x [0] 2) fun f6 => if f6 < a then (some (.inl ())) else Y)) = some (.inl ()) := fun Y => by
      rcases n2 with z | ⟨z, -, z2⟩
      · rw [if_pos z]
      · rw [if_neg z, hgI_of (cs := [0]) (k := 2) q1 rfl rfl, wt_bd_s, if_pos z2]
    have e1 : (m_sF σ 0 0).1 1 = nI R.td := by rw [sF_1, if_neg (by omega)]; exact r1.1.1
    have mM : dX4_law σ a = some (0, m_sF (m_sF σ 0 0) 0 1) := by
      unfold dX4_law
      rw [wp_lt_id, in_e, wt_bd_s, e1, n1, if_pos rfl, wt_bd_s, bad_1 g2 (by decide), wt_bd_s]
      dsimp only
      rw [if_neg (by decide)]
    rw [eb, wt_bd_s, rs_l, need_0, wt_bd_s, rs_r, wp_some]
    exact ⟨show (1 : Int32) ≠ 0 by decide, 0, _, mM, g1.s1.2, g1.s1.1⟩
theorem w_law {lit : Nat → Nat} {x w : Nat} {τ : HP} {σ : MSt} (hf : Wf τ) (h : RR lit x w τ σ) (a : Int32) : wp (eX0_law lit τ x a w) (OpR lit x w (dX4_law σ a)) := wrapH (op_law hf h a) h.cl fun e he => one_h (c := 0) (k := 100) rfl he
