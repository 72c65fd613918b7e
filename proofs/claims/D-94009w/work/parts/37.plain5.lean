/-! THE PLAIN LAW, 21: the model reads an event -/
set_option maxRecDepth 100000
theorem eKind_le (w : List Nat) : eKind w ≤ 5 := by
  unfold eKind
  (repeat' split) <;> omega
theorem ehere_e {σ : MSt} {tx : Nat → Nat} {n p : Nat} (h : MP σ tx n p) : dX4_eventHere σ = some (kI (eKind (wd tx n (skB tx n p))) 5, m_sF σ 4 (nI (skB tx n p))) := by
  have hn := h.2.1
  obtain ⟨hp1, hp2⟩ := skB_le (tx := tx) h.2.2.2.2
  have hM := h.at hp2
  have hid := skB_idem (tx := tx) h.2.2.2.2
  unfold dX4_eventHere
  rw [isWord_e [18, 1, 5, 23] h (by first | rfl | decide +kernel) (by decide) (by decide), wt_bd_s]
  generalize skB tx n p = q at hp1 hp2 hM hid
  dsimp only
  unfold eKind kI
  by_cases c0 : wd tx n q = [18, 1, 5, 23]
  · rw [if_pos c0, if_neg (by decide), if_pos c0, if_neg (by decide)]; rfl
  · rw [if_neg c0, if_pos rfl, if_neg c0, isWord_e [5, 18, 1, 2] hM (by first | rfl | decide +kernel) (by decide) (by decide), wt_bd_s, hid, sF_sF]
    dsimp only
    by_cases c1 : wd tx n q = [5, 18, 1, 2]
    · rw [if_pos c1, if_neg (by decide), if_pos c1, if_neg (by decide)]; rfl
    · rw [if_neg c1, if_pos rfl, if_neg c1, isWord_e [8, 3, 21, 15, 20] hM (by first | rfl | decide +kernel) (by decide) (by decide), wt_bd_s, hid, sF_sF]
      dsimp only
      by_cases c2 : wd tx n q = [8, 3, 21, 15, 20]
      · rw [if_pos c2, if_neg (by decide), if_pos c2, if_neg (by decide)]; rfl
      · rw [if_neg c2, if_pos rfl, if_neg c2, isWord_e [8, 19, 1, 23] hM (by first | rfl | decide +kernel) (by decide) (by decide), wt_bd_s, hid, sF_sF]
        dsimp only
        by_cases c3 : wd tx n q = [8, 19, 1, 23]
        · rw [if_pos c3, if_neg (by decide), if_pos c3, if_neg (by decide)]; rfl
        · rw [if_neg c3, if_pos rfl, if_neg c3, isWord_e [5, 11, 1, 8, 19] hM (by first | rfl | decide +kernel) (by decide) (by decide), wt_bd_s, hid, sF_sF]
          dsimp only
          by_cases c4 : wd tx n q = [5, 11, 1, 8, 19]
          · rw [if_pos c4, if_neg (by decide), if_pos c4, if_neg (by decide)]; rfl
          · rw [if_neg c4, if_pos rfl, if_neg c4, if_pos rfl]
/-- a fault while a story is read -/
def FlE (n : Nat) (σ s : MSt) (e : Nat × Nat) : Prop := Fl s e.1 e.2 ∧ mE [4, 5, 6] [] [27] σ s ∧ ∃ q, q ≤ n ∧ s.1 4 = nI q
theorem FlE.pre {n : Nat} {σ σ' s : MSt} {e : Nat × Nat} (h : FlE n σ' s e) (hE : mE [4] [] [27] σ σ') : FlE n σ s e := ⟨h.1, (hE.wide (by simp) (by simp) (by simp)).trans h.2.1, h.2.2⟩
theorem FlE.row {n i j : Nat} {v : Int32} {σ s : MSt} {e : Nat × Nat} (h : FlE n σ s e) : FlE n σ (m_sG s 27 i j v) e := ⟨h.1, h.2.1.trans (mE_sG (by simp)), h.2.2⟩
theorem FlE.of {n : Nat} {σ s : MSt} {e : Nat × Nat} (h1 : Fl s e.1 e.2) (h2 : mEp n [4, 5, 6] σ s) : FlE n σ s e := ⟨h1, h2.1.wide (by simp) (by simp) (by simp), h2.2⟩
theorem pNum_sk {tx : Nat → Nat} {n p lo hi : Nat} {ne : Option Nat} (h : p ≤ n) : pNum tx n lo hi ne (skB tx n p) = pNum tx n lo hi ne p := by
  unfold pNum
  rw [skB_idem h]
/-- the hour's row of the last event -/
def LaH (s : MSt) (k : Nat) (last : Option Nat) : Prop := (k = 0 ∧ last = none) ∨ (0 < k ∧ ∃ l, last = some l ∧ l ≤ 99 ∧ s.2.2 27 (k - 1) 3 = nI l)
def lateH (last : Option Nat) (h : Nat) : Bool := match last with | none => false | some l => decide (h < l)
theorem pAt_e {tx : Nat → Nat} {n p : Nat} {last : Option Nat} : pAt tx n last p = if wd tx n (skB tx n p) = [20, 1] then pB (pNum tx n 0 99 none (skL tx n (skB tx n p))) (fun h => if lateH last h.1 = true then .inl (3, skB tx n (skL tx n (skB tx n p))) else .inr h) else .inl (1, skB tx n p) := rfl
/-- the end of an event: 'at', its hour, the sign -/
noncomputable def evT (k : Nat) (σ38 : MSt) : Option MSt :=
  wt_bd (if (σ38.1 5) = 0 then (wt_bd (dX4_isWord σ38 (1 : Int32) (20 : Int32) (0 : Int32) (0 : Int32) (0 : Int32) (0 : Int32)) fun w44 => if w44.1 = 0 then (some (.inl w44.2)) else (wt_bd (dX4_skipWord w44.2) fun w47 => wt_bd (if (w47.1 5) = 0 then (wt_bd (dX4_blanks w47) fun w54 => some (w54)) else (some (w47))) fun w49 => wt_lt ((w49.1 4)) fun n56 => wt_bd (dX4_number w49 (0 : Int32) (99 : Int32) (-1 : Int32)) fun w57 => wt_ck (vp_in (3 : Int32) 4) <| wt_lt (m_sG w57.2 27 k (3 : Int32).toNatClampNeg w57.1) fun σ60 => wt_bd (if (σ60.1 5) = 0 then (if nI k ≤ 0 then (some (σ60)) else (wt_ck (vp_in (3 : Int32) 4) <| wt_ck (vp_in (nI k - (1 : Int32)) 21) <| wt_ck (vp_in (3 : Int32) 4) <| if (σ60.2.2 27 (((nI k - (1 : Int32))).toNatClampNeg) (3 : Int32).toNatClampNeg) ≤ (σ60.2.2 27 k (3 : Int32).toNatClampNeg) then (some (σ60)) else (wt_bd (dX4_wrong σ60 (3 : Int32) n56) fun w71 => some (w71)))) else (some (σ60))) fun w61 => wt_bd (dX4_sign w61 (59 : Int32)) fun w73 => some (.inr (w73)))) else (some (.inl σ38))) fun w39 => wt_rs w39 (fun w39 => wt_bd (dX4_wrong w39 (1 : Int32) (w39.1 4)) fun w75 => wt_bd (if (w75.1 5) = 0 then (wt_bd (dX4_blanks w75) fun w82 => some (w82)) else (some (w75))) fun w77 => wt_lt ((w77.1 4)) fun n84 => wt_bd (dX4_number w77 (0 : Int32) (99 : Int32) (-1 : Int32)) fun w85 => wt_ck (vp_in (3 : Int32) 4) <| wt_lt (m_sG w85.2 27 k (3 : Int32).toNatClampNeg w85.1) fun σ88 => wt_bd (if (σ88.1 5) = 0 then (if nI k ≤ 0 then (some (σ88)) else (wt_ck (vp_in (3 : Int32) 4) <| wt_ck (vp_in (nI k - (1 : Int32)) 21) <| wt_ck (vp_in (3 : Int32) 4) <| if (σ88.2.2 27 (((nI k - (1 : Int32))).toNatClampNeg) (3 : Int32).toNatClampNeg) ≤ (σ88.2.2 27 k (3 : Int32).toNatClampNeg) then (some (σ88)) else (wt_bd (dX4_wrong σ88 (3 : Int32) n84) fun w99 => some (w99)))) else (some (σ88))) fun w89 => wt_bd (dX4_sign w89 (59 : Int32)) fun w101 => some w101) (fun z_ => some z_)
/-- the other of an event -/
noncomputable def evB (w : Nat) (k : Nat) (σ22 : MSt) : Option (Int32 × MSt) :=
  (if nI w = 0 then (wt_bd (dX4_number σ22 (0 : Int32) (7 : Int32) (-1 : Int32)) fun w35 => some (w35.1, w35.2)) else (if nI w = (2 : Int32) then (wt_ck (vp_in (1 : Int32) 4) <| wt_bd (dX4_number σ22 (0 : Int32) (9 : Int32) (σ22.2.2 27 k 1)) fun w33 => some (w33.1, w33.2)) else (if nI w = (4 : Int32) then (wt_bd (dX4_number σ22 (0 : Int32) (16 : Int32) (-1 : Int32)) fun w30 => some (w30.1, w30.2)) else (some ((0 : Int32), σ22)))))
theorem evT_f {k : Nat} {s : MSt} (hk : k ≤ 20) (h : ¬ s.1 5 = 0) {Q : MSt → Prop} (hq : Q (m_sG s 27 k 3 0)) : wp (evT k s) Q := by
  have h2 : ¬ (m_sG s 27 k 3 0).1 5 = 0 := h
  unfold evT
  rw [if_neg h, wt_bd_s, rs_l, wrong_n h, wt_bd_s, if_neg h, wt_bd_s, wp_lt, num_f h, wt_bd_s, wt_ck_t (show vp_in (3 : Int32) 4 by rw [vp_3]; omega), wp_lt, c_3]
  dsimp only
  rw [if_neg h2, wt_bd_s, sign_f h2, wt_bd_s, wp_some]
  exact hq
/-- the outcome of an event's end in the model -/
def EtQ (n k : Nat) (s : MSt) (r : PR (Nat × Nat)) (s' : MSt) : Prop := match r with
  | .inr eh => s'.1 4 = nI eh.1 ∧ eh.1 ≤ n ∧ eh.2 ≤ 99 ∧ mE [4] [] [27] s s' ∧ s'.2.2 27 k 3 = nI eh.2 ∧ ∀ i j, ¬ (i = k ∧ j = 3) → s'.2.2 27 i j = s.2.2 27 i j
  | .inl e => FlE n s s' e
theorem evT_e {k n p : Nat} {s : MSt} {tx : Nat → Nat} {last : Option Nat} (hM : MP s tx n p) (h5 : s.1 5 = 0) (hk : k ≤ 20) (hl : LaH s k last) : wp (evT k s) (EtQ n k s (pB (pAt tx n last p) fun h => pB (pSign tx n h.2) fun e => .inr (e, h.1))) := by
  have hn := hM.2.1
  obtain ⟨hp1, hp2⟩ := skB_le (tx := tx) hM.2.2.2.2
  have hM2 := hM.at hp2
  unfold evT
  rw [pAt_e, if_pos h5, wp_bd, isWord_e [20, 1] hM (by first | rfl | decide +kernel) (by decide) (by decide), wt_bd_s]
  dsimp only
  generalize skB tx n p = q at hp1 hp2 hM2
  obtain ⟨hr1, hr2⟩ := skL_le (tx := tx) hp2
  by_cases c : wd tx n q = [20, 1]
  · have hM3 : MP (m_sF s 4 (nI (skL tx n q))) tx n (skL tx n q) := hM.at hr2
    obtain ⟨hb1, hb2⟩ := skB_le (tx := tx) hr2
    have hM4 : MP (m_sF s 4 (nI (skB tx n (skL tx n q)))) tx n (skB tx n (skL tx n q)) := hM.at hb2
    have g5 : (m_sF s 4 (nI (skL tx n q))).1 5 = 0 := by rw [sF_1, if_neg (by omega)]; exact h5
    have g54 : (m_sF s 4 (nI (skB tx n (skL tx n q)))).1 5 = 0 := by rw [sF_1, if_neg (by omega)]; exact h5
    have g4 : (m_sF s 4 (nI (skB tx n (skL tx n q)))).1 4 = nI (skB tx n (skL tx n q)) := by rw [sF_1, if_pos rfl]
    rw [if_pos c, if_neg (by decide), if_pos c, skip_e hM2, wt_bd_s, sF_sF, if_pos g5, blanks_e hM3, wt_bd_s, wt_bd_s, sF_sF, wp_lt, g4, ← pNum_sk hr2]
    generalize skB tx n (skL tx n q) = u at hb1 hb2 hM4 g54 g4
    refine wp_ap (num_e (lo := 0) (hi := 99) (ne := none) hM4 g54 (by omega) (by omega) (fun _ z => by cases z)) fun o ho => ?_
    rw [wt_ck_t (show vp_in (3 : Int32) 4 by rw [vp_3]; omega), wp_lt, c_3]
    revert ho
    cases pNum tx n 0 99 none u with
    | inl e =>
      rintro ⟨a1, a2⟩
      have h2 : ¬ (m_sG o.2 27 k 3 o.1).1 5 = 0 := a1.ne
      rw [if_neg h2, wt_bd_s, sign_f h2, wt_bd_s, wp_some, rs_r, wp_some]
      exact ((FlE.of a1 a2).pre (mE_sF (by simp))).row
    | inr vp =>
      rintro ⟨a1, a2, -, a3⟩
      subst a1
      dsimp only
      have hS : MP (m_sG (m_sF (m_sF s 4 (nI u)) 4 (nI vp.2)) 27 k 3 (nI vp.1)) tx n vp.2 := (hM4.at a2).E (mE_sG (f := []) (a := []) (g := [27]) (by simp)) (by simp) (by simp) (by simp)
      have hE : mE [4] [] [27] s (m_sG (m_sF (m_sF s 4 (nI u)) 4 (nI vp.2)) 27 k 3 (nI vp.1)) := ((mE_sF (by simp)).trans (mE_sF (by simp))).trans (mE_sG (by simp))
      have hR : ∀ i j, (m_sG (m_sF (m_sF s 4 (nI u)) 4 (nI vp.2)) 27 k 3 (nI vp.1)).2.2 27 i j = if i = k ∧ j = 3 then nI vp.1 else s.2.2 27 i j := fun i j => by
        rw [sG_3]
        by_cases c : i = k ∧ j = 3
        · rw [if_pos ⟨rfl, c⟩, if_pos c]
        · rw [if_neg (fun z => c z.2), if_neg c]; rfl
      have h52 : (m_sG (m_sF (m_sF s 4 (nI u)) 4 (nI vp.2)) 27 k 3 (nI vp.1)).1 5 = 0 := by
        show (m_sF (m_sF s 4 (nI u)) 4 (nI vp.2)).1 5 = 0
        rw [sF_1, if_neg (by omega)]; exact g54
      generalize m_sG (m_sF (m_sF s 4 (nI u)) 4 (nI vp.2)) 27 k 3 (nI vp.1) = S at hS hE hR h52
      have key : ∀ G : MSt ⊕ MSt → Prop, (∀ s2, (match pSign tx n vp.2 with
          | .inr o => s2 = m_sF S 4 (nI o) ∧ o ≤ n
          | .inl e => Fl s2 e.1 e.2 ∧ mEp n [4, 5, 6] S s2) → G (.inr s2)) → wp (wt_bd (dX4_sign S (59 : Int32)) fun w73 => some (Sum.inr w73)) G := fun G hG => wp_ap (sign_e hS h52) fun s2 hs2 => by
        rw [wp_some]
        exact hG s2 hs2
      have done : lateH last vp.1 = false → ∀ s2, (match pSign tx n vp.2 with
          | .inr o => s2 = m_sF S 4 (nI o) ∧ o ≤ n
          | .inl e => Fl s2 e.1 e.2 ∧ mEp n [4, 5, 6] S s2) → EtQ n k s (pB (pB (.inr vp) fun h => if lateH last h.1 = true then .inl (3, u) else .inr h) fun h => pB (pSign tx n h.2) fun e => .inr (e, h.1)) s2 := by
        intro hlate s2 hs2
        show EtQ n k s (pB (if lateH last vp.1 = true then .inl (3, u) else .inr vp) fun h => pB (pSign tx n h.2) fun e => .inr (e, h.1)) s2
        rw [hlate, if_neg (by decide)]
        show EtQ n k s (pB (pSign tx n vp.2) fun e => .inr (e, vp.1)) s2
        revert hs2
        cases pSign tx n vp.2 with
        | inl e =>
          rintro ⟨b1, b2⟩
          exact (FlE.of b1 b2).pre hE
        | inr e =>
          rintro ⟨b1, b2⟩
          subst b1
          refine ⟨by rw [sF_1, if_pos rfl], b2, a3, hE.trans (mE_sF (by simp)), ?_, fun i j hij => ?_⟩
          · show S.2.2 27 k 3 = _
            rw [hR, if_pos ⟨rfl, rfl⟩]
          · show S.2.2 27 i j = _
            rw [hR, if_neg hij]
      rw [if_pos h52]
      rcases hl with ⟨hk0, hl0⟩ | ⟨hk0, l, hl0, hl1, hl2⟩
      · rw [if_pos (by rw [z_le (by omega)]; omega), wt_bd_s]
        exact key _ fun s2 hs2 => by
          show wp (wt_rs (Sum.inr s2) _ _) _
          rw [rs_r, wp_some]
          exact done (by rw [hl0]; rfl) s2 hs2
      · have r1 : S.2.2 27 (k - 1) 3 = nI l := by
          rw [hR, if_neg (by omega)]
          exact hl2
        have r2 : S.2.2 27 k 3 = nI vp.1 := by rw [hR, if_pos ⟨rfl, rfl⟩]
        rw [if_neg (by rw [z_le (by omega)]; omega), wt_ck_t (show vp_in (3 : Int32) 4 by rw [vp_3]; omega), nI_sub1 hk0, wt_ck_t (show vp_in (nI (k - 1)) 21 by rw [vp_nI (by omega)]; omega), wt_ck_t (show vp_in (3 : Int32) 4 by rw [vp_3]; omega), nI_clamp (by omega), r1, r2]
        by_cases c5 : l ≤ vp.1
        · rw [if_pos (by rw [nI_leI (by omega) (by omega)]; exact c5), wt_bd_s]
          exact key _ fun s2 hs2 => by
            show wp (wt_rs (Sum.inr s2) _ _) _
            rw [rs_r, wp_some]
            exact done (by rw [hl0]; exact decide_eq_false (by omega)) s2 hs2
        · have hlate : lateH last vp.1 = true := by rw [hl0]; exact decide_eq_true (by omega)
          rw [if_neg (by rw [nI_leI (by omega) (by omega)]; exact c5), wp_bd, wp_bd]
          refine wp_mono (wrong_y (k := 3) (pl := u) h52 (by omega) (by omega)) fun s2 ⟨b1, b2⟩ => ?_
          rw [wp_some, sign_f b1.ne, wt_bd_s, wp_some, rs_r, wp_some]
          show EtQ n k s (pB (if lateH last vp.1 = true then .inl (3, u) else .inr vp) fun h => pB (pSign tx n h.2) fun e => .inr (e, h.1)) s2
          rw [hlate, if_pos rfl]
          exact (FlE.of (e := (3, u)) b1 ⟨b2.wide (by simp) (by simp) (by simp), vp.2, a2, by rw [b2.1 4 (by simp)]; exact hS.2.2.2.1⟩).pre hE
  · rw [if_neg c, if_pos rfl, if_neg c, wp_some, rs_l]
    have g4 : (m_sF s 4 (nI q)).1 4 = nI q := by rw [sF_1, if_pos rfl]
    have g5 : (m_sF s 4 (nI q)).1 5 = 0 := by rw [sF_1, if_neg (by omega)]; exact h5
    rw [g4]
    refine wp_ap (wrong_y (k := 1) (pl := q) g5 (by omega) (by omega)) fun s2 ⟨b1, b2⟩ => ?_
    rw [if_neg b1.ne, wt_bd_s, wp_lt, num_f b1.ne, wt_bd_s, wt_ck_t (show vp_in (3 : Int32) 4 by rw [vp_3]; omega), wp_lt, c_3]
    have h2 : ¬ (m_sG s2 27 k 3 0).1 5 = 0 := b1.ne
    dsimp only
    rw [if_neg h2, wt_bd_s, sign_f h2, wt_bd_s, wp_some]
    exact (FlE.of b1 (mEp_of b2 hp2)).row
theorem evB_f {w k : Nat} {s : MSt} (h : ¬ s.1 5 = 0) : evB w k s = some (0, s) := by
  unfold evB
  rw [num_f h, num_f h, num_f h, wt_bd_s, wt_ck_t (show vp_in (1 : Int32) 4 by rw [vp_1]; omega)]
  (repeat' split) <;> rfl
theorem evB_e {w a k n p : Nat} {s : MSt} {tx : Nat → Nat} (hM : MP s tx n p) (h5 : s.1 5 = 0) (hw : w ≤ 4) (ha : s.2.2 27 k 1 = nI a) (ha9 : a ≤ 9) : wp (evB w k s) (fun o => match (if w = 0 then pNum tx n 0 7 none p else if w = 2 then pNum tx n 0 9 (some a) p else if w = 4 then pNum tx n 0 16 none p else .inr (0, p)) with
      | .inr vp => o = (nI vp.1, m_sF s 4 (nI vp.2)) ∧ vp.2 ≤ n
      | .inl e => Fl o.2 e.1 e.2 ∧ mEp n [4, 5, 6] s o.2) := by
  have go : ∀ {lo hi : Nat} {ne : Option Nat}, lo ≤ 1000 → hi ≤ 1000 → (∀ s, ne = some s → s ≤ 1000) → wp (dX4_number s (nI lo) (nI hi) (ntI ne)) (fun o => match pNum tx n lo hi ne p with
      | .inr vp => o = (nI vp.1, m_sF s 4 (nI vp.2)) ∧ vp.2 ≤ n
      | .inl e => Fl o.2 e.1 e.2 ∧ mEp n [4, 5, 6] s o.2) := fun {lo hi ne} h1 h2 h3 => by
    refine wp_mono (num_e hM h5 h1 h2 h3) fun o ho => ?_
    revert ho
    cases pNum tx n lo hi ne p with
    | inl e => exact id
    | inr vp => exact fun z => ⟨z.1, z.2.1⟩
  unfold evB
  rw [bd_eta, bd_eta, bd_eta]
  have hw2 : w = 0 ∨ w = 1 ∨ w = 2 ∨ w = 3 ∨ w = 4 := by omega
  rcases hw2 with c | c | c | c | c <;> subst c
  · rw [if_pos (by decide), if_pos rfl]
    exact go (lo := 0) (hi := 7) (ne := none) (by omega) (by omega) (fun _ z => by cases z)
  · rw [if_neg (by decide), if_neg (by decide), if_neg (by decide), if_neg (by decide), if_neg (by decide), if_neg (by decide), wp_some]
    exact ⟨by rw [hM.self]; rfl, hM.2.2.2.2⟩
  · rw [if_neg (by decide), if_pos (by decide), if_neg (by decide), if_pos rfl, wt_ck_t (show vp_in (1 : Int32) 4 by rw [vp_1]; omega), ha]
    exact go (lo := 0) (hi := 9) (ne := some a) (by omega) (by omega) (fun _ z => by injection z with z; omega)
  · rw [if_neg (by decide), if_neg (by decide), if_neg (by decide), if_neg (by decide), if_neg (by decide), if_neg (by decide), wp_some]
    exact ⟨by rw [hM.self]; rfl, hM.2.2.2.2⟩
  · rw [if_neg (by decide), if_neg (by decide), if_pos (by decide), if_neg (by decide), if_neg (by decide), if_pos rfl]
    exact go (lo := 0) (hi := 16) (ne := none) (by omega) (by omega) (fun _ z => by cases z)
/-- the outcome of an event in the model -/
def EvQ (σ : MSt) (n k : Nat) (r : PR (Nat × Nat × Nat × Nat × Nat)) (s : MSt) : Prop := match r with
  | .inr c => s.1 4 = nI c.1 ∧ c.1 ≤ n ∧ c.2.2.2.2 ≤ 99 ∧ mE [4] [] [27] σ s ∧ (s.2.2 27 k 0 = nI c.2.1 ∧ s.2.2 27 k 1 = nI c.2.2.1 ∧ s.2.2 27 k 2 = nI c.2.2.2.1 ∧ s.2.2 27 k 3 = nI c.2.2.2.2) ∧ ∀ i j, i ≠ k → s.2.2 27 i j = σ.2.2 27 i j
  | .inl e => FlE n σ s e
theorem event_e {σ : MSt} {tx : Nat → Nat} {n p k : Nat} {last : Option Nat} (h : MP σ tx n p) (h5 : σ.1 5 = 0) (hk : k ≤ 20) (hl : LaH σ k last) : wp (dX4_eventAt σ (nI k)) (EvQ σ n k (pEvent tx n k last p)) := by
  have hn := h.2.1
  obtain ⟨hp1, hp2⟩ := skB_le (tx := tx) h.2.2.2.2
  obtain ⟨hq1, hq2⟩ := skL_le (tx := tx) hp2
  have hkk := eKind_le (wd tx n (skB tx n p))
  have hM := h.at hp2
  unfold dX4_eventAt pEvent
  rw [ehere_e h, wt_bd_s]
  dsimp only
  generalize eKind (wd tx n (skB tx n p)) = w at hkk
  have hskip := skip_e hM
  generalize skB tx n p = q at hp1 hp2 hq1 hq2 hM hskip
  have h5' : (m_sF σ 4 (nI q)).1 5 = 0 := by rw [sF_1, if_neg (by omega)]; exact h5
  have h4' : (m_sF σ 4 (nI q)).1 4 = nI q := by rw [sF_1, if_pos rfl]
  have fin : ∀ {s : MSt} {e : Nat × Nat}, Fl s e.1 e.2 → mE [5, 6] [] [] (m_sF σ 4 (nI q)) s → FlE n σ s e := fun h1 h2 => ⟨h1, (mE_sF (by simp)).trans (h2.wide (by simp) (by simp) (by simp)), q, hp2, by rw [h2.1 4 (by simp)]; exact h4'⟩
  by_cases c5 : w = 5
  · rw [c5, show kI 5 5 = (-1 : Int32) from rfl, if_pos rfl, if_pos rfl, h4', wp_bd, wp_bd]
    refine wp_mono (wrong_y (k := 1) (pl := q) h5' (by omega) (by omega)) fun s hs => ?_
    rw [wp_some, if_neg hs.1.ne, wp_some]
    exact fin (e := (1, q)) hs.1 hs.2
  · rw [show kI w 5 = nI w from if_neg c5, if_neg (by rw [nI_neg (by omega)]; exact id), if_neg c5]
    by_cases c20 : k = 20
    · rw [if_pos (show nI k = (20 : Int32) by rw [c20]; rfl), if_pos c20, h4', wp_bd, wp_bd]
      refine wp_mono (wrong_y (k := 3) (pl := q) h5' (by omega) (by omega)) fun s hs => ?_
      rw [wp_some, if_neg hs.1.ne, wp_some]
      exact fin (e := (3, q)) hs.1 hs.2
    · rw [if_neg (show ¬ nI k = (20 : Int32) from fun z => c20 ((nI_eq (b := 20) (by omega) (by omega)).mp z)), if_neg c20, wt_bd_s, if_pos h5', hskip, wt_bd_s, sF_sF, wt_ck_t (show vp_in (nI k) 21 by rw [vp_nI (by omega)]; omega), wt_ck_t (show vp_in (0 : Int32) 4 by rw [vp_0]; omega), wp_lt, nI_clamp (by omega), c_0]
      generalize skL tx n q = r at hq1 hq2
      have M0 : MP (m_sG (m_sF σ 4 (nI r)) 27 k 0 (nI w)) tx n r := (h.at hq2).E (mE_sG (f := []) (a := []) (g := [27]) (by simp)) (by simp) (by simp) (by simp)
      have E0 : mE [4] [] [27] σ (m_sG (m_sF σ 4 (nI r)) 27 k 0 (nI w)) := (mE_sF (by simp)).trans (mE_sG (by simp))
      have R0 : ∀ i j, (m_sG (m_sF σ 4 (nI r)) 27 k 0 (nI w)).2.2 27 i j = if i = k ∧ j = 0 then nI w else σ.2.2 27 i j := fun i j => by
        rw [sG_3]
        by_cases c : i = k ∧ j = 0
        · rw [if_pos ⟨rfl, c⟩, if_pos c]
        · rw [if_neg (fun z => c z.2), if_neg c]; rfl
      have h50 : (m_sG (m_sF σ 4 (nI r)) 27 k 0 (nI w)).1 5 = 0 := by
        show (m_sF σ 4 (nI r)).1 5 = 0
        rw [sF_1, if_neg (by omega)]; exact h5
      generalize m_sG (m_sF σ 4 (nI r)) 27 k 0 (nI w) = S0 at M0 E0 R0 h50
      refine wp_ap (num_e (lo := 0) (hi := 9) (ne := none) M0 h50 (by omega) (by omega) (fun _ z => by cases z)) fun o1 ho1 => ?_
      rw [wt_ck_t (show vp_in (1 : Int32) 4 by rw [vp_1]; omega), wp_lt, c_1]
      revert ho1
      cases pNum tx n 0 9 none r with
      | inl e =>
        rintro ⟨a1, a2⟩
        have g5 : ¬ (m_sG o1.2 27 k 1 o1.1).1 5 = 0 := a1.ne
        refine wp_ap (x := evB w k (m_sG o1.2 27 k 1 o1.1)) (P := fun o => o = (0, m_sG o1.2 27 k 1 o1.1)) ⟨_, evB_f g5, rfl⟩ fun o2 e2 => ?_
        subst e2
        dsimp only
        rw [wt_ck_t (show vp_in (2 : Int32) 4 by rw [vp_2]; omega), wp_lt, c_2]
        exact evT_f (k := k) (by omega) (show ¬ (m_sG (m_sG o1.2 27 k 1 o1.1) 27 k 2 0).1 5 = 0 from a1.ne) ((((FlE.of a1 a2).pre E0).row).row).row
      | inr va =>
        rintro ⟨a1, a2, -, a3⟩
        subst a1
        dsimp only
        have M1 : MP (m_sG (m_sF S0 4 (nI va.2)) 27 k 1 (nI va.1)) tx n va.2 := (M0.at a2).E (mE_sG (f := []) (a := []) (g := [27]) (by simp)) (by simp) (by simp) (by simp)
        have E1 : mE [4] [] [27] σ (m_sG (m_sF S0 4 (nI va.2)) 27 k 1 (nI va.1)) := (E0.trans (mE_sF (by simp))).trans (mE_sG (by simp))
        have R1 : ∀ i j, (m_sG (m_sF S0 4 (nI va.2)) 27 k 1 (nI va.1)).2.2 27 i j = if i = k ∧ j = 1 then nI va.1 else S0.2.2 27 i j := fun i j => by
          rw [sG_3]
          by_cases c : i = k ∧ j = 1
          · rw [if_pos ⟨rfl, c⟩, if_pos c]
          · rw [if_neg (fun z => c z.2), if_neg c]; rfl
        have h51 : (m_sG (m_sF S0 4 (nI va.2)) 27 k 1 (nI va.1)).1 5 = 0 := by
          show (m_sF S0 4 (nI va.2)).1 5 = 0
          rw [sF_1, if_neg (by omega)]; exact h50
        generalize m_sG (m_sF S0 4 (nI va.2)) 27 k 1 (nI va.1) = S1 at M1 E1 R1 h51
        refine wp_ap (x := evB w k S1) (evB_e M1 h51 (by omega) (by rw [R1, if_pos ⟨rfl, rfl⟩]) a3) fun o2 ho2 => ?_
        rw [wt_ck_t (show vp_in (2 : Int32) 4 by rw [vp_2]; omega), wp_lt, c_2, pB_r]
        revert ho2
        cases (if w = 0 then pNum tx n 0 7 none va.2 else if w = 2 then pNum tx n 0 9 (some va.1) va.2 else if w = 4 then pNum tx n 0 16 none va.2 else .inr (0, va.2)) with
        | inl e =>
          rintro ⟨b1, b2⟩
          exact evT_f (k := k) (by omega) (show ¬ (m_sG o2.2 27 k 2 o2.1).1 5 = 0 from b1.ne) (((FlE.of b1 b2).pre E1).row).row
        | inr vb =>
          rintro ⟨b1, b2⟩
          subst b1
          dsimp only
          have M2 : MP (m_sG (m_sF S1 4 (nI vb.2)) 27 k 2 (nI vb.1)) tx n vb.2 := (M1.at b2).E (mE_sG (f := []) (a := []) (g := [27]) (by simp)) (by simp) (by simp) (by simp)
          have E2 : mE [4] [] [27] σ (m_sG (m_sF S1 4 (nI vb.2)) 27 k 2 (nI vb.1)) := (E1.trans (mE_sF (by simp))).trans (mE_sG (by simp))
          have R2 : ∀ i j, (m_sG (m_sF S1 4 (nI vb.2)) 27 k 2 (nI vb.1)).2.2 27 i j = if i = k ∧ j = 2 then nI vb.1 else S1.2.2 27 i j := fun i j => by
            rw [sG_3]
            by_cases c : i = k ∧ j = 2
            · rw [if_pos ⟨rfl, c⟩, if_pos c]
            · rw [if_neg (fun z => c z.2), if_neg c]; rfl
          have h52 : (m_sG (m_sF S1 4 (nI vb.2)) 27 k 2 (nI vb.1)).1 5 = 0 := by
            show (m_sF S1 4 (nI vb.2)).1 5 = 0
            rw [sF_1, if_neg (by omega)]; exact h51
          generalize m_sG (m_sF S1 4 (nI vb.2)) 27 k 2 (nI vb.1) = S2 at M2 E2 R2 h52
          have hl2 : LaH S2 k last := by
            rcases hl with z | ⟨z1, l, z2, z3, z4⟩
            · exact Or.inl z
            · exact Or.inr ⟨z1, l, z2, z3, by rw [R2, if_neg (by omega), R1, if_neg (by omega), R0, if_neg (by omega)]; exact z4⟩
          refine wp_mono (x := evT k S2) (evT_e M2 h52 hk hl2) fun s hs => ?_
          rw [pB_r]
          have e3 : (pB (pAt tx n last vb.2) fun h => pB (pSign tx n h.2) fun e => (.inr (e, w, va.1, vb.1, h.1) : PR (Nat × Nat × Nat × Nat × Nat))) = pB (pB (pAt tx n last vb.2) fun h => pB (pSign tx n h.2) fun e => .inr (e, h.1)) fun eh => .inr (eh.1, w, va.1, vb.1, eh.2) := by
            rw [pB_as]
            refine congrArg _ (funext fun h => ?_)
            rw [pB_as]
            rfl
          rw [e3]
          revert hs
          cases (pB (pAt tx n last vb.2) fun h => pB (pSign tx n h.2) fun e => (.inr (e, h.1) : PR (Nat × Nat))) with
          | inl e => exact fun z => z.pre E2
          | inr eh =>
            rintro ⟨d1, d2, d3, d4, d5, d6⟩
            refine ⟨d1, d2, d3, E2.trans d4, ⟨?_, ?_, ?_, d5⟩, fun i j hij => ?_⟩
            · rw [d6 k 0 (by omega), R2, if_neg (by omega), R1, if_neg (by omega), R0, if_pos ⟨rfl, rfl⟩]
            · rw [d6 k 1 (by omega), R2, if_neg (by omega), R1, if_pos ⟨rfl, rfl⟩]
            · rw [d6 k 2 (by omega), R2, if_pos ⟨rfl, rfl⟩]
            · rw [d6 i j (by omega), R2, if_neg (by omega), R1, if_neg (by omega), R0, if_neg (by omega)]
/-! THE PLAIN LAW, 22: the model reads a story to its end -/
set_option maxRecDepth 100000
/-- an event as it was read -/
def EvcOk (c : Nat × Nat × Nat × Nat) : Prop := c.1 ≤ 4 ∧ c.2.1 ≤ 9 ∧ (c.1 = 0 → c.2.2.1 ≤ 7) ∧ (c.1 = 2 → c.2.2.1 ≤ 9) ∧ (c.1 = 4 → c.2.2.1 ≤ 16) ∧ c.2.2.2 ≤ 99
theorem pAt_ok {tx : Nat → Nat} {n p : Nat} {last : Option Nat} {h : Nat × Nat} (hp : p ≤ n) (e : pAt tx n last p = .inr h) : h.1 ≤ 99 ∧ h.2 ≤ n ∧ ∀ l, last = some l → l ≤ h.1 := by
  obtain ⟨hq1, hq2⟩ := skB_le (tx := tx) hp
  obtain ⟨hr1, hr2⟩ := skL_le (tx := tx) hq2
  rw [pAt_e] at e
  by_cases c : wd tx n (skB tx n p) = [20, 1]
  · rw [if_pos c] at e
    obtain ⟨v, v1, v2⟩ := pB_inr e
    obtain ⟨-, v3, v4, -⟩ := pNum_ok hr2 v1
    by_cases c2 : lateH last v.1 = true
    · rw [if_pos c2] at v2; cases v2
    · rw [if_neg c2] at v2
      cases v2
      refine ⟨v3, v4, fun l hl => ?_⟩
      rcases Nat.lt_or_ge h.1 l with z | z
      · exact absurd (by rw [hl]; exact decide_eq_true z) c2
      · exact z
  · rw [if_neg c] at e; cases e
theorem pEvent_ok {tx : Nat → Nat} {n k p : Nat} {last : Option Nat} {c : Nat × Nat × Nat × Nat × Nat} (hp : p ≤ n) (h : pEvent tx n k last p = .inr c) : c.1 ≤ n ∧ EvcOk c.2 ∧ ∀ l, last = some l → l ≤ c.2.2.2.2 := by
  obtain ⟨hq1, hq2⟩ := skB_le (tx := tx) hp
  obtain ⟨hr1, hr2⟩ := skL_le (tx := tx) hq2
  have hw := eKind_le (wd tx n (skB tx n p))
  unfold pEvent at h
  dsimp only at h
  generalize eKind (wd tx n (skB tx n p)) = w at h hw
  by_cases c5 : w = 5
  · rw [if_pos c5] at h; cases h
  · rw [if_neg c5] at h
    by_cases c20 : k = 20
    · rw [if_pos c20] at h; cases h
    · rw [if_neg c20] at h
      obtain ⟨a, a1, a2⟩ := pB_inr h
      obtain ⟨-, a3, a4, -⟩ := pNum_ok hr2 a1
      obtain ⟨b, b1, b2⟩ := pB_inr a2
      obtain ⟨u, u1, u2⟩ := pB_inr b2
      obtain ⟨e, e1, e2⟩ := pB_inr u2
      have hb : b.2 ≤ n ∧ (w = 0 → b.1 ≤ 7) ∧ (w = 2 → b.1 ≤ 9) ∧ (w = 4 → b.1 ≤ 16) := by
        by_cases w0 : w = 0
        · rw [if_pos w0] at b1
          obtain ⟨-, z1, z2, -⟩ := pNum_ok a4 b1
          exact ⟨z2, fun _ => z1, fun q => by omega, fun q => by omega⟩
        · rw [if_neg w0] at b1
          by_cases w2 : w = 2
          · rw [if_pos w2] at b1
            obtain ⟨-, z1, z2, -⟩ := pNum_ok a4 b1
            exact ⟨z2, fun q => by omega, fun _ => z1, fun q => by omega⟩
          · rw [if_neg w2] at b1
            by_cases w4 : w = 4
            · rw [if_pos w4] at b1
              obtain ⟨-, z1, z2, -⟩ := pNum_ok a4 b1
              exact ⟨z2, fun q => by omega, fun q => by omega, fun _ => z1⟩
            · rw [if_neg w4] at b1
              cases b1
              exact ⟨a4, fun q => absurd q w0, fun q => absurd q w2, fun q => absurd q w4⟩
      obtain ⟨f1, f2, f3⟩ := pAt_ok hb.1 u1
      have f4 := pSign_ok e1
      cases e2
      exact ⟨f4, ⟨by show w ≤ 4; omega, a3, hb.2.1, hb.2.2.1, hb.2.2.2, f1⟩, f3⟩
theorem pEvent_20 {tx : Nat → Nat} {n p : Nat} {last : Option Nat} : ∃ e, pEvent tx n 20 last p = .inl e := by
  unfold pEvent
  dsimp only
  by_cases c : eKind (wd tx n (skB tx n p)) = 5
  · exact ⟨_, by rw [if_pos c]⟩
  · exact ⟨_, by rw [if_neg c, if_pos rfl]⟩
/-- the row i of g holds the event c -/
def RowIs (g : Nat → Nat → Int32) (i : Nat) (c : Nat × Nat × Nat × Nat) : Prop := g i 0 = nI c.1 ∧ g i 1 = nI c.2.1 ∧ g i 2 = nI c.2.2.1 ∧ g i 3 = nI c.2.2.2
/-- the outcome of all events in the model -/
def StQ (σ : MSt) (k : Nat) (r : PR (List (Nat × Nat × Nat × Nat))) (o : Int32 × MSt) : Prop := match r with
  | .inr l => o.1 = nI (k + l.length) ∧ mE [4] [] [27] σ o.2 ∧ (∀ i c, l[i]? = some c → RowIs (o.2.2.2 27) (k + i) c) ∧ ∀ i j, i < k → o.2.2.2 27 i j = σ.2.2 27 i j
  | .inl e => Fl o.2 e.1 e.2 ∧ mE [4, 5, 6] [] [27] σ o.2
theorem mevents {tx : Nat → Nat} {n : Nat} : ∀ (f k p : Nat) (last : Option Nat) (σ : MSt), f + k = 21 → k ≤ 20 → MP σ tx n p → σ.1 5 = 0 → LaH σ k last → wp (wt_whC bX4_story_1 (nI k, σ)) (StQ σ k (pStory tx n f k last p)) := by
  intro f
  induction f with
  | zero => intro k p last σ hk hk2; omega
  | succ f ih =>
    intro k p last σ hk hk2 h h5 hl
    have hn := h.2.1
    have hpn := h.2.2.2.2
    unfold pStory
    refine wp_wh ?_
    unfold bX4_story_1
    dsimp only
    rw [if_pos h5, h.1, h.2.2.2.1]
    by_cases c : n ≤ p
    · rw [if_pos c, if_pos (by rw [nI_leI (by omega) (by omega)]; exact c), wp_some, lpo_r]
      exact ⟨rfl, mE.rfl, fun i c hc => by simp at hc, fun _ _ _ => rfl⟩
    · rw [if_neg c, if_neg (by rw [nI_leI (by omega) (by omega)]; exact c)]
      refine wp_ap (event_e h h5 hk2 hl) fun s hs => ?_
      have h20 : k = 20 → ∃ e, pEvent tx n k last p = .inl e := fun z => by
        subst z
        exact pEvent_20
      have hok := fun c hc => pEvent_ok (tx := tx) (k := k) (last := last) (c := c) h.2.2.2.2 hc
      revert hs h20 hok
      cases pEvent tx n k last p with
      | inl e =>
        rintro ⟨a1, a2, q, a3, a4⟩ - -
        have hM : MP s tx n q := h.to a2 (by simp) (by simp) a4 a3
        have a5 := a1.E (mE_sF (f := [4]) (a := []) (g := []) (k := 4) (v := nI (skB tx n q)) (by simp)) (by simp) (by simp)
        rw [wp_lt, blanks_e hM, wt_bd_s, wp_some, lpo_l]
        refine wp_wh ?_
        dsimp only
        rw [if_neg a5.ne, wp_some, lpo_r]
        exact ⟨a5, a2.trans (mE_sF (by simp))⟩
      | inr c =>
        rintro ⟨a1, a2, a3, a4, a5, a6⟩ h20 hok
        have hk20 : k ≠ 20 := fun z => by
          obtain ⟨e, he⟩ := h20 z
          cases he
        have hM : MP s tx n c.1 := h.to a4 (by simp) (by simp) a1 a2
        obtain ⟨d1, d2⟩ := skB_le (tx := tx) a2
        have hE : mE [4] [] [27] σ (m_sF s 4 (nI (skB tx n c.1))) := a4.trans (mE_sF (by simp))
        rw [wp_lt, blanks_e hM, wt_bd_s, wp_some, lpo_l, nI_1]
        have hgo := ih (k + 1) (skB tx n c.1) (some c.2.2.2.2) (m_sF s 4 (nI (skB tx n c.1))) (by omega) (by omega) (hM.at d2) (by rw [hE.1 5 (by simp)]; exact h5) (Or.inr ⟨by omega, _, rfl, a3, a5.2.2.2⟩)
        refine wp_mono hgo fun o ho => ?_
        show StQ σ k (pB (pStory tx n f (k + 1) (some c.2.2.2.2) (skB tx n c.1)) fun l => .inr (c.2 :: l)) o
        revert ho
        cases pStory tx n f (k + 1) (some c.2.2.2.2) (skB tx n c.1) with
        | inl e =>
          rintro ⟨b1, b2⟩
          exact ⟨b1, (hE.wide (by simp) (by simp) (by simp)).trans b2⟩
        | inr l =>
          rintro ⟨b1, b2, b3, b4⟩
          refine ⟨?_, hE.trans b2, fun i x hx => ?_, fun i j hi => ?_⟩
          · rw [b1, List.length_cons]
            exact congrArg nI (by omega)
          · cases i with
            | zero =>
              have e : c.2 = x := by simpa using hx
              subst e
              refine ⟨?_, ?_, ?_, ?_⟩
              · exact (b4 k 0 (by omega)).trans a5.1
              · exact (b4 k 1 (by omega)).trans a5.2.1
              · exact (b4 k 2 (by omega)).trans a5.2.2.1
              · exact (b4 k 3 (by omega)).trans a5.2.2.2
            | succ i =>
              have e : l[i]? = some x := by simpa using hx
              have := b3 i x e
              rw [show k + (i + 1) = k + 1 + i from by omega]
              exact this
          · rw [b4 i j (by omega)]
            exact a6 i j (by omega)
/-- what a story's events are, and their number -/
theorem pStory_ok {tx : Nat → Nat} {n : Nat} : ∀ (f k p : Nat) (last : Option Nat) (l : List (Nat × Nat × Nat × Nat)), f + k = 21 → k ≤ 20 → p ≤ n → pStory tx n f k last p = .inr l → k + l.length ≤ 20 ∧ (∀ c, c ∈ l → EvcOk c) ∧ (∀ h, last = some h → ∀ c, c ∈ l → h ≤ c.2.2.2) ∧ ∀ i a b, l[i]? = some a → l[i + 1]? = some b → a.2.2.2 ≤ b.2.2.2 := by
  intro f
  induction f with
  | zero => intro k p last l hk hk2; omega
  | succ f ih =>
    intro k p last l hk hk2 hp h
    unfold pStory at h
    by_cases c : n ≤ p
    · rw [if_pos c] at h
      cases h
      exact ⟨by simpa using hk2, fun c hc => by simp at hc, fun _ _ c hc => by simp at hc, fun i a b ha => by simp at ha⟩
    · rw [if_neg c] at h
      obtain ⟨v, v1, v2⟩ := pB_inr h
      obtain ⟨l', l1, l2⟩ := pB_inr v2
      cases l2
      obtain ⟨a1, a2, a3⟩ := pEvent_ok hp v1
      have hk20 : k ≠ 20 := fun z => by
        subst z
        obtain ⟨e, he⟩ := pEvent_20 (tx := tx) (n := n) (p := p) (last := last)
        rw [he] at v1
        cases v1
      obtain ⟨b1, b2, b3, b4⟩ := ih (k + 1) _ _ l' (by omega) (by omega) (skB_le (tx := tx) a1).2 l1
      refine ⟨by rw [List.length_cons]; omega, fun c hc => ?_, fun h hh c hc => ?_, fun i a b ha hb => ?_⟩
      · rcases List.mem_cons.mp hc with e | e
        · rw [e]; exact a2
        · exact b2 c e
      · rcases List.mem_cons.mp hc with e | e
        · rw [e]; exact a3 h hh
        · exact Nat.le_trans (a3 h hh) (b3 _ rfl c e)
      · cases i with
        | zero =>
          have e : v.2 = a := by simpa using ha
          subst e
          have hb' : l'[0]? = some b := by simpa using hb
          exact b3 _ rfl b (List.mem_of_getElem? hb')
        | succ i => exact b4 i a b (by simpa using ha) (by simpa using hb)
/-! the events are copied to their story -/
theorem st_cpy1 {σ0 s : MSt} {i ns : Nat} (hi : i < 20) (hns : ns < 4) (h24 : s.1 24 = nI ns) : wp (wt_whC (bX4_story_3 (nI i, σ0)) ((0 : Int32), s)) (fun s' => mE [] [] [26] s s' ∧ (∀ j, j < 4 → s'.2.2 26 (20 * ns + i) j = s.2.2 27 i j) ∧ ∀ a j, a ≠ 20 * ns + i → s'.2.2 26 a j = s.2.2 26 a j) := by
  refine wp_for 4 0 (fun k v => ∃ s', v = (nI k, s') ∧ mE [] [] [26] s s' ∧ (∀ j, j < k → s'.2.2 26 (20 * ns + i) j = s.2.2 27 i j) ∧ ∀ a j, a ≠ 20 * ns + i → s'.2.2 26 a j = s.2.2 26 a j) (by omega) ⟨s, rfl, mE.rfl, fun j hj => by omega, fun _ _ _ => rfl⟩ ?_ ?_
  · rintro k v hk ⟨s', rfl, h1, h2, h3⟩
    unfold bX4_story_3
    dsimp only
    rw [wp_ite, if_neg (by rw [q_4, nI_leI (by omega) (by omega)]; omega), h1.1 24 (by simp), h24, i20, wt_ck_t (show vp_in (nI (20 * ns + i)) 80 by rw [vp_nI (by omega)]; omega), wt_ck_t (show vp_in (nI i) 21 by rw [vp_nI (by omega)]; omega), wt_ck_t (show vp_in (nI k) 4 by rw [vp_nI (by omega)]; omega), wt_ck_t (show vp_in (nI k) 4 by rw [vp_nI (by omega)]; omega), wp_lt, wp_lt, wp_some, lpo_l, nI_1, nI_clamp (by omega), nI_clamp (by omega), nI_clamp (by omega)]
    refine ⟨_, rfl, h1.trans (mE_sG (by simp)), fun j hj => ?_, fun a j ha => ?_⟩
    · rw [sG_3]
      by_cases c : j = k
      · rw [if_pos ⟨rfl, rfl, c⟩, c, h1.2.2 27 (by simp)]
      · rw [if_neg (fun z => c z.2.2)]
        exact h2 j (by omega)
    · rw [sG_3, if_neg (fun z => ha z.2.1)]
      exact h3 a j ha
  · rintro v ⟨s', rfl, h⟩
    unfold bX4_story_3
    dsimp only
    rw [wp_ite, if_pos (by decide), wp_some, lpo_r]
    exact h
theorem st_cpy2 {s0 s : MSt} {m ns : Nat} (hm : m ≤ 20) (hns : ns < 4) (h24 : s.1 24 = nI ns) : wp (wt_whC (bX4_story_2 (nI m, s0)) ((0 : Int32), s)) (fun s' => mE [] [] [26] s s' ∧ (∀ i j, i < m → j < 4 → s'.2.2 26 (20 * ns + i) j = s.2.2 27 i j) ∧ ∀ a j, (a < 20 * ns ∨ 20 * ns + 20 ≤ a) → s'.2.2 26 a j = s.2.2 26 a j) := by
  refine wp_for m 0 (fun k v => ∃ s', v = (nI k, s') ∧ mE [] [] [26] s s' ∧ (∀ i j, i < k → j < 4 → s'.2.2 26 (20 * ns + i) j = s.2.2 27 i j) ∧ ∀ a j, (a < 20 * ns ∨ 20 * ns + 20 ≤ a) → s'.2.2 26 a j = s.2.2 26 a j) (by omega) ⟨s, rfl, mE.rfl, fun i j hi => by omega, fun _ _ _ => rfl⟩ ?_ ?_
  · rintro k v hk ⟨s', rfl, h1, h2, h3⟩
    unfold bX4_story_2
    dsimp only
    rw [wp_ite, if_neg (by rw [nI_leI (by omega) (by omega)]; omega)]
    refine wp_ap (st_cpy1 (σ0 := s') (i := k) (by omega) hns (by rw [h1.1 24 (by simp)]; exact h24)) fun s2 ⟨g1, g2, g3⟩ => ?_
    rw [wp_lt, wp_some, lpo_l, nI_1]
    refine ⟨s2, rfl, h1.trans g1, fun i j hi hj => ?_, fun a j ha => ?_⟩
    · by_cases c : i = k
      · rw [c, g2 j hj, h1.2.2 27 (by simp)]
      · rw [g3 _ _ (by omega)]
        exact h2 i j (by omega) hj
    · rw [g3 _ _ (by omega)]
      exact h3 a j ha
  · rintro v ⟨s', rfl, h⟩
    unfold bX4_story_2
    dsimp only
    rw [wp_ite, if_pos (by rw [nI_leI (by omega) (by omega)]; omega), wp_some, lpo_r]
    exact h
/-- the outcome of the model's story -/
def SoQ (σ : MSt) (ns : Nat) (r : PR (List (Nat × Nat × Nat × Nat))) (o : Int32 × MSt) : Prop := match r with
  | .inl e => o.1 = nI e.1 - 10 ∧ 1 ≤ e.1 ∧ e.1 ≤ 3 ∧ o.2.1 0 = 0 ∧ o.2.1 1 = 0 ∧ o.2.1 3 = nI e.2 ∧ mE [0, 1, 2, 3, 4, 5, 6] [] [27] σ o.2
  | .inr l => o.1 = nI ns ∧ o.2.1 0 = 0 ∧ o.2.1 1 = 0 ∧ o.2.1 3 = -1 ∧ o.2.1 24 = nI (ns + 1) ∧ o.2.2.1 25 ns = nI l.length ∧ (∀ i, i ≠ ns → o.2.2.1 25 i = σ.2.1 25 i) ∧ (∀ i c, l[i]? = some c → RowIs (o.2.2.2 26) (20 * ns + i) c) ∧ (∀ a j, (a < 20 * ns ∨ 20 * ns + 20 ≤ a) → o.2.2.2 26 a j = σ.2.2 26 a j) ∧ mE [0, 1, 2, 3, 4, 5, 6, 24] [25] [26, 27] σ o.2
theorem mstory_e {σ : MSt} {tx : Nat → Nat} {td n ns : Nat} (h : Tp σ tx td) (hn : n ≤ td) (hn3 : n ≤ 300) (h24 : σ.1 24 = nI ns) (hns : ns ≤ 4) : wp (dX4_story σ (nI n)) (fun o => if ns = 4 then o.1 = -1 ∧ o.2.1 0 = 0 ∧ o.2.1 1 = 0 ∧ o.2.1 3 = -1 ∧ mE [0, 1, 2, 3, 4, 5, 6] [] [] σ o.2 else SoQ σ ns (pStory tx n 21 0 none (skB tx n 0)) o) := by
  have h400 := h.2.1
  unfold dX4_story
  rw [wp_lt]
  have hE0 : mE [0] [] [] σ (m_sF σ 0 0) := mE_sF (by simp)
  have h00 : (m_sF σ 0 0).1 0 = 0 := by rw [sF_1, if_pos rfl]
  have hT0 : Tp (m_sF σ 0 0) tx td := ⟨by rw [sF_1, if_neg (by omega)]; exact h.1, h.2⟩
  generalize m_sF σ 0 0 = s0 at hE0 h00 hT0
  have hmin : (nI n).toInt ≤ (mLess (nI td) (300 : Int32)).toInt := by
    unfold mLess
    split
    · rw [nI_toInt (by omega), show (300 : Int32).toInt = 300 from by decide]; omega
    · rw [nI_toInt (by omega), nI_toInt (by omega)]; omega
  rw [hT0.1, less_e, wt_bd_s, in_e, wt_bd_s, mIn_t (by rw [nI_toInt (by omega), show (0 : Int32).toInt = 0 from by decide]; omega) hmin, if_neg (by decide), wt_bd_s, bad_0 h00, wt_bd_s]
  dsimp only
  rw [if_pos rfl]
  refine wp_ap (begins_e hT0 hn) fun s1 ⟨hM1, h15, h16, h11, hE1⟩ => ?_
  rw [wp_lt]
  have hE2 : mE [3] [] [] s1 (m_sF s1 3 (-1)) := mE_sF (by simp)
  have h23 : (m_sF s1 3 (-1)).1 3 = -1 := by rw [sF_1, if_pos rfl]
  generalize m_sF s1 3 (-1) = s2 at hE2 h23
  have hEs : mE [0, 1, 2, 3, 4, 5, 6] [] [] σ s2 := ((hE0.wide (by simp) (by simp) (by simp)).trans (hE1.wide (by simp) (by simp) (by simp))).trans (hE2.wide (by simp) (by simp) (by simp))
  have h20 : s2.1 0 = 0 := by rw [hE2.1 0 (by simp), hE1.1 0 (by simp)]; exact h00
  have h21 : s2.1 1 = 0 := by rw [hE2.1 1 (by simp)]; exact h11
  have h224 : s2.1 24 = nI ns := by rw [hEs.1 24 (by simp)]; exact h24
  by_cases c4 : ns = 4
  · rw [if_pos (show s2.1 24 = (4 : Int32) by rw [h224, c4]; rfl), wp_some, if_pos c4]
    exact ⟨rfl, h20, h21, h23, hEs⟩
  · rw [if_neg (show ¬ s2.1 24 = (4 : Int32) from fun z => c4 ((nI_eq (b := 4) (by omega) (by omega)).mp (h224.symm.trans z)))]
    have hM2 : MP s2 tx n (skB tx n 0) := hM1.E hE2 (by simp) (by simp) (by simp)
    have h25 : s2.1 5 = 0 := by rw [hE2.1 5 (by simp)]; exact h15
    have h26 : s2.1 6 = -1 := by rw [hE2.1 6 (by simp)]; exact h16
    refine wp_ap (mevents 21 0 _ none s2 (by omega) (by omega) hM2 h25 (Or.inl ⟨rfl, rfl⟩)) fun o hq => ?_
    have hok := fun l => pStory_ok (tx := tx) (n := n) 21 0 (skB tx n 0) none l (by omega) (by omega) (skB_le (tx := tx) (Nat.zero_le n)).2
    simp only [if_neg c4]
    revert hq hok
    cases pStory tx n 21 0 none (skB tx n 0) with
    | inl e =>
      rintro ⟨b1, b2⟩ -
      rw [wp_lt]
      have b3 := b1.E (mE_sF (f := [3]) (a := []) (g := []) (k := 3) (v := o.2.1 6) (by simp)) (by simp) (by simp)
      rw [if_neg b3.ne, wp_some]
      refine ⟨by rw [b3.1], b1.2.2.1, b1.2.2.2, ?_, ?_, ?_, (hEs.wide (by simp) (by simp) (by simp)).trans ((b2.wide (by simp) (by simp) (by simp)).trans (mE_sF (by simp)))⟩
      · show (m_sF o.2 3 (o.2.1 6)).1 0 = 0
        rw [sF_1, if_neg (by omega), b2.1 0 (by simp)]; exact h20
      · show (m_sF o.2 3 (o.2.1 6)).1 1 = 0
        rw [sF_1, if_neg (by omega), b2.1 1 (by simp)]; exact h21
      · show (m_sF o.2 3 (o.2.1 6)).1 3 = nI e.2
        rw [sF_1, if_pos rfl]; exact b1.2.1
    | inr l =>
      rintro ⟨b1, b2, b3, b4⟩ hok
      obtain ⟨ok1, ok2, -, -⟩ := hok l rfl
      obtain ⟨o1, s3⟩ := o
      dsimp only at b1 b2 b3 b4 ⊢
      rw [Nat.zero_add] at b1
      subst b1
      have q6 : s3.1 6 = -1 := by rw [b2.1 6 (by simp)]; exact h26
      rw [wp_lt, q6]
      have hE3 : mE [3, 4] [] [27] s2 (m_sF s3 3 (-1)) := (b2.wide (by simp) (by simp) (by simp)).trans (mE_sF (by simp))
      have q5 : (m_sF s3 3 (-1)).1 5 = 0 := by rw [hE3.1 5 (by simp)]; exact h25
      have q3 : (m_sF s3 3 (-1)).1 3 = -1 := by rw [sF_1, if_pos rfl]
      have qr : (m_sF s3 3 (-1)).2.2 27 = s3.2.2 27 := rfl
      have qs : m_sF s3 3 (-1) = m_sF s3 3 (-1) := rfl
      rw [if_pos q5]
      have q24 : (m_sF s3 3 (-1)).1 24 = nI ns := by rw [hE3.1 24 (by simp)]; exact h224
      refine wp_ap (st_cpy2 (by omega) (by omega) q24) fun s5 ⟨g1, g2, g3⟩ => ?_
      have e24 : s5.1 24 = nI ns := by rw [g1.1 24 (by simp)]; exact q24
      rw [e24, wt_ck_t (show vp_in (nI ns) 4 by rw [vp_nI (by omega)]; omega), wp_lt, nI_clamp (by omega), wp_lt, wp_some]
      have f24 : (m_sA s5 25 ns (nI l.length)).1 24 = nI ns := e24
      rw [f24, nI_1]
      have f24' : (m_sF (m_sA s5 25 ns (nI l.length)) 24 (nI (ns + 1))).1 24 = nI (ns + 1) := by rw [sF_1, if_pos rfl]
      have hE5 : mE [3, 4] [] [26, 27] s2 s5 := (hE3.wide (by simp) (by simp) (by simp)).trans (g1.wide (by simp) (by simp) (by simp))
      have hE6 : mE [24] [25] [] s5 (m_sF (m_sA s5 25 ns (nI l.length)) 24 (nI (ns + 1))) := (mE_sA (by simp)).trans (mE_sF (by simp))
      refine ⟨?_, ?_, ?_, ?_, f24', ?_, fun i hi => ?_, fun i c hc => ?_, fun a j ha => ?_, ((hEs.wide (by simp) (by simp) (by simp)).trans (hE5.wide (by simp) (by simp) (by simp))).trans (hE6.wide (by simp) (by simp) (by simp))⟩
      · show (m_sF (m_sA s5 25 ns (nI l.length)) 24 (nI (ns + 1))).1 24 - 1 = nI ns
        rw [f24', nI_sub1 (by omega)]
        rfl
      · show (m_sF (m_sA s5 25 ns (nI l.length)) 24 (nI (ns + 1))).1 0 = 0
        rw [hE6.1 0 (by simp), hE5.1 0 (by simp)]; exact h20
      · show (m_sF (m_sA s5 25 ns (nI l.length)) 24 (nI (ns + 1))).1 1 = 0
        rw [hE6.1 1 (by simp), hE5.1 1 (by simp)]; exact h21
      · show (m_sF (m_sA s5 25 ns (nI l.length)) 24 (nI (ns + 1))).1 3 = -1
        rw [hE6.1 3 (by simp), g1.1 3 (by simp)]; exact q3
      · show (m_sA s5 25 ns (nI l.length)).2.1 25 ns = _
        rw [sA_2, if_pos ⟨rfl, rfl⟩]
      · show (m_sA s5 25 ns (nI l.length)).2.1 25 i = _
        rw [sA_2, if_neg (fun z => hi z.2), hE5.2.1 25 (by simp), hEs.2.1 25 (by simp)]
      · have hlt : i < l.length := by
          rcases Nat.lt_or_ge i l.length with z | z
          · exact z
          · rw [List.getElem?_eq_none z] at hc; cases hc
        obtain ⟨r1, r2, r3, r4⟩ := b3 i c hc
        rw [Nat.zero_add] at r1 r2 r3 r4
        refine ⟨?_, ?_, ?_, ?_⟩
        · exact (g2 i 0 (by omega) (by omega)).trans r1
        · exact (g2 i 1 (by omega) (by omega)).trans r2
        · exact (g2 i 2 (by omega) (by omega)).trans r3
        · exact (g2 i 3 (by omega) (by omega)).trans r4
      · show s5.2.2 26 a j = _
        rw [g3 a j ha, hE3.2.2 26 (by simp), hEs.2.2 26 (by simp)]
