/-! the model's methods, walked (by gen/walk.py): fault sheds told alikeOf alike isStory badPlace areTwo comes touches stays does runs lies pileAt pile wears find isFind found drop times parts countsIn numbers scale digitsNow -/
set_option maxRecDepth 100000
noncomputable def dX4_fault (σ : MSt)  : Option (Int32 × MSt) :=
  wt_lt (m_sF σ 0 (0 : Int32)) fun σ1 => some ((σ1.1 3), σ1)
set_option maxHeartbeats 4000000 in
theorem wX4_fault (l : Launch) {X : MPar} {lo hi : Nat} (hJ : mJ X lo hi) {σ : MSt}  {out_ : Int32 × MSt} (hd : dX4_fault σ = some out_) : Met l yX4_fault (ws_ yX4_fault cX4_fault 1 (some .int)) ({ frames := 0, cells := 0, slots := 0, locals := 0 }) (mP X σ [.ref X.1.1]) (mQi X out_.1 out_.2 (mA lo hi)) 0 0 (mA lo hi) := by
  refine Met.ofW (cc := cX4_fault) (maxL := 1) (ret := (some .int)) (by decide) rfl ?_
  intro p_ e_ s_ m_ args_ below_ meth_ c_ s₁_ B hml hv
  obtain ⟨rfl, hW, hK⟩ := hv
  have hx := B.exec
  have hb := B.bytes
  have hr := B.returns
  have hts := atoms_spec (ws := (ws_ yX4_fault cX4_fault 1 (some .int))) B.pre
  have hts : ∀ w ∈ lw_all, w.before _ s_ = true := fun w h => hts w (List.mem_cons_of_mem _ h)
  have hown : s_.vm.findClass RX4 = some m_.cls := findClass_of_methodNamed B.named
  have hlocks := B.notSynchronized
  have hS : va_S (mA lo hi) s_.heap s_.heap [] := va_S.rf
  have hl := lv_entry ([.ref X.1.1]) (n := 1) (Nat.le_of_ble_eq_true rfl)
  rw [lg_entry_eq]
  generalize (lg_sl ([.ref X.1.1]) ++ List.replicate (1 - (lg_sl ([.ref X.1.1])).length) Slot.unset).toArray = ls at hl ⊢
  have hl : lv_has ls 1 [(0, .ref X.1.1)] := hl
  unfold dX4_fault at hd
  refine lv_aload_n (pc := 0) hx hb dX4_fault_0 rfl (lv_at hl 0 rfl) ?_
  refine lv_iconst (pc := 1) (v := 0) hx hb dX4_fault_1 (by decide) ?_
  obtain ⟨σ1, eσ1, hd⟩ := wt_lt_o hd
  refine mr_put (pc := 2) (k := 0) hx hb hts hown hK hW hJ hS (by decide) rfl eσ1 q1529 dX4_fault_2 (fun H locs hW hS => ?_)
  refine lv_aload_n (pc := 5) hx hb dX4_fault_5 rfl (lv_at hl 0 rfl) ?_
  refine mr_get (pc := 6) (k := 3) (v := .int ((σ1.1 3))) hx hb hts hown hK hW (by decide) rfl q1532 dX4_fault_6 ?_
  exact mr_iret hx hb hr rfl hlocks (wt_p1 hd) (wt_p2 hd) hW hK hS dX4_fault_9
noncomputable def dX4_sheds (σ : MSt) (a0 : Int32) (a1 : Int32) : Option (Int32 × MSt) :=
  wt_lt (m_sF σ 0 (0 : Int32)) fun σ1 => wt_bd (dX4_in a0 (0 : Int32) (7 : Int32)) fun w2 => wt_bd (if w2 = 0 then (some (.inl ())) else (wt_bd (dX4_in a1 (0 : Int32) (9 : Int32)) fun w9 => if w9 = 0 then (some (.inl ())) else (wt_bd (dX4_bad σ1 (0 : Int32) (1 : Int32)) fun w12 => if w12.1 = 0 then (wt_ck (vp_in a0 8) <| wt_ck (vp_in a1 10) <| some (.inr ((w12.2.2.2 12 (a0.toNatClampNeg) a1.toNatClampNeg), w12.2))) else (some (.inr ((0 : Int32), w12.2)))))) fun w4 => wt_rs w4 (fun w4 => wt_bd (dX4_bad σ1 (1 : Int32) (1 : Int32)) fun w17 => if w17.1 = 0 then (wt_ck (vp_in a0 8) <| wt_ck (vp_in a1 10) <| some ((w17.2.2.2 12 (a0.toNatClampNeg) a1.toNatClampNeg), w17.2)) else (some ((0 : Int32), w17.2))) (fun z_ => some z_)
set_option maxHeartbeats 4000000 in
theorem wX4_sheds (l : Launch) {X : MPar} {lo hi : Nat} (hJ : mJ X lo hi) {σ : MSt} {a0 : Int32} {a1 : Int32} {out_ : Int32 × MSt} (hd : dX4_sheds σ a0 a1 = some out_) : Met l yX4_sheds (ws_ yX4_sheds cX4_sheds 3 (some .int)) ({ frames := 1, cells := 0, slots := 0, locals := 22 }) (mP X σ [.ref X.1.1, .int a0, .int a1]) (mQi X out_.1 out_.2 (mA lo hi)) 0 0 (mA lo hi) := by
  refine Met.ofW (cc := cX4_sheds) (maxL := 3) (ret := (some .int)) (by decide) rfl ?_
  intro p_ e_ s_ m_ args_ below_ meth_ c_ s₁_ B hml hv
  obtain ⟨rfl, hW, hK⟩ := hv
  have hx := B.exec
  have hb := B.bytes
  have hr := B.returns
  have hts := atoms_spec (ws := (ws_ yX4_sheds cX4_sheds 3 (some .int))) B.pre
  have hts : ∀ w ∈ lw_all, w.before _ s_ = true := fun w h => hts w (List.mem_cons_of_mem _ h)
  have hown : s_.vm.findClass RX4 = some m_.cls := findClass_of_methodNamed B.named
  have hlocks := B.notSynchronized
  have hS : va_S (mA lo hi) s_.heap s_.heap [] := va_S.rf
  have hl := lv_entry ([.ref X.1.1, .int a0, .int a1]) (n := 3) (Nat.le_of_ble_eq_true rfl)
  rw [lg_entry_eq]
  generalize (lg_sl ([.ref X.1.1, .int a0, .int a1]) ++ List.replicate (3 - (lg_sl ([.ref X.1.1, .int a0, .int a1])).length) Slot.unset).toArray = ls at hl ⊢
  have hl : lv_has ls 3 [(0, .ref X.1.1), (1, .int a0), (2, .int a1)] := hl
  unfold dX4_sheds at hd
  refine lv_aload_n (pc := 0) hx hb dX4_sheds_0 rfl (lv_at hl 0 rfl) ?_
  refine lv_iconst (pc := 1) (v := 0) hx hb dX4_sheds_1 (by decide) ?_
  obtain ⟨σ1, eσ1, hd⟩ := wt_lt_o hd
  refine mr_put (pc := 2) (k := 0) hx hb hts hown hK hW hJ hS (by decide) rfl eσ1 q1529 dX4_sheds_2 (fun H locs hW hS => ?_)
  refine lv_aload_n (pc := 5) hx hb dX4_sheds_5 rfl (lv_at hl 0 rfl) ?_
  refine lv_iload_n (pc := 6) hx hb dX4_sheds_6 rfl (lv_at hl 1 rfl) ?_
  refine lv_iconst (pc := 7) (v := 0) hx hb dX4_sheds_7 (by decide) ?_
  refine lv_bipush (pc := 8) (v := 7) hx hb dX4_sheds_8 (by decide) ?_
  obtain ⟨w2, hc3, hd⟩ := wt_bd_o hd
  refine kX4_in (pc := 10) hx hb hml hown hts hK hW hS hc3 hl.1 (Nat.le_of_ble_eq_true rfl) ⟨Nat.le_of_ble_eq_true rfl, Nat.le_of_ble_eq_true rfl⟩ ⟨Nat.le_refl _, Nat.le_refl _⟩ dX4_sheds_10 (fun H locs hW hS => ?_)
  obtain ⟨w4, hj5, hq6⟩ := wt_bd_o hd
  have hX7 : ∀ w4_ : Unit, (Sum.inl w4_ : Unit ⊕ _) = w4 → ∀ (H : Heap) (locs : List Loc) (ls : Array Slot), mW X σ1 H → va_S (mA lo hi) s_.heap H locs → lv_has ls 3 [(0, .ref X.1.1), (1, .int a0), (2, .int a1)] → W p_ l e_ (headSpec (ws_ yX4_sheds cX4_sheds 3 (some .int)) ({ frames := 1, cells := 0, slots := 0, locals := 22 })).room s_ m_ ([.ref X.1.1, .int a0, .int a1] : List Value).toArray below_ meth_ c_ H locs 0 0 (MQ below_ (mQi X out_.1 out_.2 (mA lo hi)) ([.ref X.1.1, .int a0, .int a1] : List Value).toArray s_ 0 0 (mA lo hi)) (F0 m_ 26 ls [.ref X.1.1]) := by
    intro w4_ hw_
    have hd := wt_rs_l hw_ hq6
    clear hj5 hq6
    intro H locs ls hW hS hl
    refine lv_iconst (pc := 26) (v := 1) hx hb dX4_sheds_26 (by decide) ?_
    refine lv_goto (pc := 27) (tgt := 31) hx hb dX4_sheds_27 (by decide) ?_
    refine lv_iconst (pc := 31) (v := 1) hx hb dX4_sheds_31 (by decide) ?_
    obtain ⟨w17, hc18, hd⟩ := wt_bd_o hd
    refine kX4_bad (pc := 32) hx hb hml hown hts hK hJ hW hS hc18 hl.1 (Nat.le_of_ble_eq_true rfl) ⟨Nat.le_of_ble_eq_true rfl, Nat.le_of_ble_eq_true rfl⟩ ⟨Nat.le_refl _, Nat.le_refl _⟩ dX4_sheds_32 (fun H locs hW hS => ?_)
    refine lv_if_eq (pc := 35) (tgt := 40) hx hb dX4_sheds_35 (by decide) (fun c19 => ?_) (fun c19 => ?_)
    · have hd := wt_it hd c19
      refine lv_aload_n (pc := 40) hx hb dX4_sheds_40 rfl (lv_at hl 0 rfl) ?_
      refine mr_get (pc := 41) (k := 12) (v := .ref (X.1.2.1 12)) hx hb hts hown hK hW (by decide) rfl q1541 dX4_sheds_41 ?_
      refine lv_iload_n (pc := 44) hx hb dX4_sheds_44 rfl (lv_at hl 1 rfl) ?_
      obtain ⟨h20, hd⟩ := wt_ck_o hd
      refine mr_row (pc := 45) (k := 12) hx hb hK hW rfl h20 dX4_sheds_45 ?_
      refine lv_iload_n (pc := 46) hx hb dX4_sheds_46 rfl (lv_at hl 2 rfl) ?_
      obtain ⟨h21, hd⟩ := wt_ck_o hd
      refine mr_gld (pc := 47) (k := 12) (i := (a0.toNatClampNeg)) hx hb hK hW (vp_lt h20) rfl h21 dX4_sheds_47 ?_
      exact mr_iret hx hb hr rfl hlocks (wt_p1 hd) (wt_p2 hd) hW hK hS dX4_sheds_48
    · have hd := wt_if hd c19
      refine lv_iconst (pc := 38) (v := 0) hx hb dX4_sheds_38 (by decide) ?_
      exact mr_iret hx hb hr rfl hlocks (wt_p1 hd) (wt_p2 hd) hW hK hS dX4_sheds_39
  have hd := hj5
  refine lv_if_eq (pc := 13) (tgt := 26) hx hb dX4_sheds_13 (by decide) (fun c8 => ?_) (fun c8 => ?_)
  · have hd := wt_it hd c8
    exact hX7 () (Option.some.inj hd) _ _ _ hW hS hl
  · have hd := wt_if hd c8
    refine lv_iload_n (pc := 16) hx hb dX4_sheds_16 rfl (lv_at hl 2 rfl) ?_
    refine lv_iconst (pc := 17) (v := 0) hx hb dX4_sheds_17 (by decide) ?_
    refine lv_bipush (pc := 18) (v := 9) hx hb dX4_sheds_18 (by decide) ?_
    obtain ⟨w9, hc10, hd⟩ := wt_bd_o hd
    refine kX4_in (pc := 20) hx hb hml hown hts hK hW hS hc10 hl.1 (Nat.le_of_ble_eq_true rfl) ⟨Nat.le_of_ble_eq_true rfl, Nat.le_of_ble_eq_true rfl⟩ ⟨Nat.le_refl _, Nat.le_refl _⟩ dX4_sheds_20 (fun H locs hW hS => ?_)
    refine lv_if_ne (pc := 23) (tgt := 30) hx hb dX4_sheds_23 (by decide) (fun c11 => ?_) (fun c11 => ?_)
    · have hd := wt_if hd c11
      refine lv_iconst (pc := 30) (v := 0) hx hb dX4_sheds_30 (by decide) ?_
      refine lv_iconst (pc := 31) (v := 1) hx hb dX4_sheds_31 (by decide) ?_
      obtain ⟨w12, hc13, hd⟩ := wt_bd_o hd
      refine kX4_bad (pc := 32) hx hb hml hown hts hK hJ hW hS hc13 hl.1 (Nat.le_of_ble_eq_true rfl) ⟨Nat.le_of_ble_eq_true rfl, Nat.le_of_ble_eq_true rfl⟩ ⟨Nat.le_refl _, Nat.le_refl _⟩ dX4_sheds_32 (fun H locs hW hS => ?_)
      refine lv_if_eq (pc := 35) (tgt := 40) hx hb dX4_sheds_35 (by decide) (fun c14 => ?_) (fun c14 => ?_)
      · have hd := wt_it hd c14
        refine lv_aload_n (pc := 40) hx hb dX4_sheds_40 rfl (lv_at hl 0 rfl) ?_
        refine mr_get (pc := 41) (k := 12) (v := .ref (X.1.2.1 12)) hx hb hts hown hK hW (by decide) rfl q1541 dX4_sheds_41 ?_
        refine lv_iload_n (pc := 44) hx hb dX4_sheds_44 rfl (lv_at hl 1 rfl) ?_
        obtain ⟨h15, hd⟩ := wt_ck_o hd
        refine mr_row (pc := 45) (k := 12) hx hb hK hW rfl h15 dX4_sheds_45 ?_
        refine lv_iload_n (pc := 46) hx hb dX4_sheds_46 rfl (lv_at hl 2 rfl) ?_
        obtain ⟨h16, hd⟩ := wt_ck_o hd
        refine mr_gld (pc := 47) (k := 12) (i := (a0.toNatClampNeg)) hx hb hK hW (vp_lt h15) rfl h16 dX4_sheds_47 ?_
        have hd := wt_rs_r (Option.some.inj hd) hq6
        exact mr_iret hx hb hr rfl hlocks (wt_p1 hd) (wt_p2 hd) hW hK hS dX4_sheds_48
      · have hd := wt_if hd c14
        refine lv_iconst (pc := 38) (v := 0) hx hb dX4_sheds_38 (by decide) ?_
        have hd := wt_rs_r (Option.some.inj hd) hq6
        exact mr_iret hx hb hr rfl hlocks (wt_p1 hd) (wt_p2 hd) hW hK hS dX4_sheds_39
    · have hd := wt_it hd c11
      exact hX7 () (Option.some.inj hd) _ _ _ hW hS hl
noncomputable def dX4_told (σ : MSt) (a0 : Int32) (a1 : Int32) : Option (Int32 × MSt) :=
  wt_lt (m_sF σ 0 (0 : Int32)) fun σ1 => wt_bd (dX4_in a0 (0 : Int32) (9 : Int32)) fun w2 => wt_bd (if w2 = 0 then (some (.inl ())) else (wt_bd (dX4_in a1 (0 : Int32) (4 : Int32)) fun w9 => if w9 = 0 then (some (.inl ())) else (wt_bd (dX4_bad σ1 (0 : Int32) (1 : Int32)) fun w12 => if w12.1 = 0 then (if a1 = 0 then (wt_ck (vp_in a0 10) <| some (.inr ((w12.2.2.1 13 a0.toNatClampNeg), w12.2))) else (if a1 = (1 : Int32) then (wt_ck (vp_in a0 10) <| some (.inr ((w12.2.2.1 14 a0.toNatClampNeg), w12.2))) else (if a1 = (2 : Int32) then (some (.inr ((w12.2.1 9), w12.2))) else (if a1 = (3 : Int32) then (some (.inr ((w12.2.1 10), w12.2))) else (some (.inr ((w12.2.1 11), w12.2))))))) else (some (.inr ((0 : Int32), w12.2)))))) fun w4 => wt_rs w4 (fun w4 => wt_bd (dX4_bad σ1 (1 : Int32) (1 : Int32)) fun w21 => if w21.1 = 0 then (if a1 = 0 then (wt_ck (vp_in a0 10) <| some ((w21.2.2.1 13 a0.toNatClampNeg), w21.2)) else (if a1 = (1 : Int32) then (wt_ck (vp_in a0 10) <| some ((w21.2.2.1 14 a0.toNatClampNeg), w21.2)) else (if a1 = (2 : Int32) then (some ((w21.2.1 9), w21.2)) else (if a1 = (3 : Int32) then (some ((w21.2.1 10), w21.2)) else (some ((w21.2.1 11), w21.2)))))) else (some ((0 : Int32), w21.2))) (fun z_ => some z_)
set_option maxHeartbeats 4000000 in
theorem wX4_told (l : Launch) {X : MPar} {lo hi : Nat} (hJ : mJ X lo hi) {σ : MSt} {a0 : Int32} {a1 : Int32} {out_ : Int32 × MSt} (hd : dX4_told σ a0 a1 = some out_) : Met l yX4_told (ws_ yX4_told cX4_told 3 (some .int)) ({ frames := 1, cells := 0, slots := 0, locals := 22 }) (mP X σ [.ref X.1.1, .int a0, .int a1]) (mQi X out_.1 out_.2 (mA lo hi)) 0 0 (mA lo hi) := by
  refine Met.ofW (cc := cX4_told) (maxL := 3) (ret := (some .int)) (by decide) rfl ?_
  intro p_ e_ s_ m_ args_ below_ meth_ c_ s₁_ B hml hv
  obtain ⟨rfl, hW, hK⟩ := hv
  have hx := B.exec
  have hb := B.bytes
  have hr := B.returns
  have hts := atoms_spec (ws := (ws_ yX4_told cX4_told 3 (some .int))) B.pre
  have hts : ∀ w ∈ lw_all, w.before _ s_ = true := fun w h => hts w (List.mem_cons_of_mem _ h)
  have hown : s_.vm.findClass RX4 = some m_.cls := findClass_of_methodNamed B.named
  have hlocks := B.notSynchronized
  have hS : va_S (mA lo hi) s_.heap s_.heap [] := va_S.rf
  have hl := lv_entry ([.ref X.1.1, .int a0, .int a1]) (n := 3) (Nat.le_of_ble_eq_true rfl)
  rw [lg_entry_eq]
  generalize (lg_sl ([.ref X.1.1, .int a0, .int a1]) ++ List.replicate (3 - (lg_sl ([.ref X.1.1, .int a0, .int a1])).length) Slot.unset).toArray = ls at hl ⊢
  have hl : lv_has ls 3 [(0, .ref X.1.1), (1, .int a0), (2, .int a1)] := hl
  unfold dX4_told at hd
  refine lv_aload_n (pc := 0) hx hb dX4_told_0 rfl (lv_at hl 0 rfl) ?_
  refine lv_iconst (pc := 1) (v := 0) hx hb dX4_told_1 (by decide) ?_
  obtain ⟨σ1, eσ1, hd⟩ := wt_lt_o hd
  refine mr_put (pc := 2) (k := 0) hx hb hts hown hK hW hJ hS (by decide) rfl eσ1 q1529 dX4_told_2 (fun H locs hW hS => ?_)
  refine lv_aload_n (pc := 5) hx hb dX4_told_5 rfl (lv_at hl 0 rfl) ?_
  refine lv_iload_n (pc := 6) hx hb dX4_told_6 rfl (lv_at hl 1 rfl) ?_
  refine lv_iconst (pc := 7) (v := 0) hx hb dX4_told_7 (by decide) ?_
  refine lv_bipush (pc := 8) (v := 9) hx hb dX4_told_8 (by decide) ?_
  obtain ⟨w2, hc3, hd⟩ := wt_bd_o hd
  refine kX4_in (pc := 10) hx hb hml hown hts hK hW hS hc3 hl.1 (Nat.le_of_ble_eq_true rfl) ⟨Nat.le_of_ble_eq_true rfl, Nat.le_of_ble_eq_true rfl⟩ ⟨Nat.le_refl _, Nat.le_refl _⟩ dX4_told_10 (fun H locs hW hS => ?_)
  obtain ⟨w4, hj5, hq6⟩ := wt_bd_o hd
  have hX7 : ∀ w4_ : Unit, (Sum.inl w4_ : Unit ⊕ _) = w4 → ∀ (H : Heap) (locs : List Loc) (ls : Array Slot), mW X σ1 H → va_S (mA lo hi) s_.heap H locs → lv_has ls 3 [(0, .ref X.1.1), (1, .int a0), (2, .int a1)] → W p_ l e_ (headSpec (ws_ yX4_told cX4_told 3 (some .int)) ({ frames := 1, cells := 0, slots := 0, locals := 22 })).room s_ m_ ([.ref X.1.1, .int a0, .int a1] : List Value).toArray below_ meth_ c_ H locs 0 0 (MQ below_ (mQi X out_.1 out_.2 (mA lo hi)) ([.ref X.1.1, .int a0, .int a1] : List Value).toArray s_ 0 0 (mA lo hi)) (F0 m_ 25 ls [.ref X.1.1]) := by
    intro w4_ hw_
    have hd := wt_rs_l hw_ hq6
    clear hj5 hq6
    intro H locs ls hW hS hl
    refine lv_iconst (pc := 25) (v := 1) hx hb dX4_told_25 (by decide) ?_
    refine lv_goto (pc := 26) (tgt := 30) hx hb dX4_told_26 (by decide) ?_
    refine lv_iconst (pc := 30) (v := 1) hx hb dX4_told_30 (by decide) ?_
    obtain ⟨w21, hc22, hd⟩ := wt_bd_o hd
    refine kX4_bad (pc := 31) hx hb hml hown hts hK hJ hW hS hc22 hl.1 (Nat.le_of_ble_eq_true rfl) ⟨Nat.le_of_ble_eq_true rfl, Nat.le_of_ble_eq_true rfl⟩ ⟨Nat.le_refl _, Nat.le_refl _⟩ dX4_told_31 (fun H locs hW hS => ?_)
    refine lv_if_eq (pc := 34) (tgt := 39) hx hb dX4_told_34 (by decide) (fun c23 => ?_) (fun c23 => ?_)
    · have hd := wt_it hd c23
      refine lv_iload_n (pc := 39) hx hb dX4_told_39 rfl (lv_at hl 2 rfl) ?_
      refine lv_if_ne (pc := 40) (tgt := 52) hx hb dX4_told_40 (by decide) (fun c24 => ?_) (fun c24 => ?_)
      · have hd := wt_if hd c24
        refine lv_iload_n (pc := 52) hx hb dX4_told_52 rfl (lv_at hl 2 rfl) ?_
        refine lv_iconst (pc := 53) (v := 1) hx hb dX4_told_53 (by decide) ?_
        refine lv_icmp_ne (pc := 54) (tgt := 66) hx hb dX4_told_54 (by decide) (fun c25 => ?_) (fun c25 => ?_)
        · have hd := wt_if hd c25
          refine lv_iload_n (pc := 66) hx hb dX4_told_66 rfl (lv_at hl 2 rfl) ?_
          refine lv_iconst (pc := 67) (v := 2) hx hb dX4_told_67 (by decide) ?_
          refine lv_icmp_ne (pc := 68) (tgt := 78) hx hb dX4_told_68 (by decide) (fun c26 => ?_) (fun c26 => ?_)
          · have hd := wt_if hd c26
            refine lv_iload_n (pc := 78) hx hb dX4_told_78 rfl (lv_at hl 2 rfl) ?_
            refine lv_iconst (pc := 79) (v := 3) hx hb dX4_told_79 (by decide) ?_
            refine lv_icmp_ne (pc := 80) (tgt := 90) hx hb dX4_told_80 (by decide) (fun c27 => ?_) (fun c27 => ?_)
            · have hd := wt_if hd c27
              refine lv_aload_n (pc := 90) hx hb dX4_told_90 rfl (lv_at hl 0 rfl) ?_
              refine mr_get (pc := 91) (k := 11) (v := .int ((w21.2.1 11))) hx hb hts hown hK hW (by decide) rfl q1540 dX4_told_91 ?_
              exact mr_iret hx hb hr rfl hlocks (wt_p1 hd) (wt_p2 hd) hW hK hS dX4_told_94
            · have hd := wt_it hd c27
              refine lv_aload_n (pc := 83) hx hb dX4_told_83 rfl (lv_at hl 0 rfl) ?_
              refine mr_get (pc := 84) (k := 10) (v := .int ((w21.2.1 10))) hx hb hts hown hK hW (by decide) rfl q1539 dX4_told_84 ?_
              refine lv_goto (pc := 87) (tgt := 94) hx hb dX4_told_87 (by decide) ?_
              exact mr_iret hx hb hr rfl hlocks (wt_p1 hd) (wt_p2 hd) hW hK hS dX4_told_94
          · have hd := wt_it hd c26
            refine lv_aload_n (pc := 71) hx hb dX4_told_71 rfl (lv_at hl 0 rfl) ?_
            refine mr_get (pc := 72) (k := 9) (v := .int ((w21.2.1 9))) hx hb hts hown hK hW (by decide) rfl q1538 dX4_told_72 ?_
            refine lv_goto (pc := 75) (tgt := 94) hx hb dX4_told_75 (by decide) ?_
            exact mr_iret hx hb hr rfl hlocks (wt_p1 hd) (wt_p2 hd) hW hK hS dX4_told_94
        · have hd := wt_it hd c25
          refine lv_aload_n (pc := 57) hx hb dX4_told_57 rfl (lv_at hl 0 rfl) ?_
          refine mr_get (pc := 58) (k := 14) (v := .ref (X.1.2.1 14)) hx hb hts hown hK hW (by decide) rfl q1543 dX4_told_58 ?_
          refine lv_iload_n (pc := 61) hx hb dX4_told_61 rfl (lv_at hl 1 rfl) ?_
          obtain ⟨h28, hd⟩ := wt_ck_o hd
          refine mr_ald (pc := 62) (k := 14) hx hb hK hW rfl h28 dX4_told_62 ?_
          refine lv_goto (pc := 63) (tgt := 94) hx hb dX4_told_63 (by decide) ?_
          exact mr_iret hx hb hr rfl hlocks (wt_p1 hd) (wt_p2 hd) hW hK hS dX4_told_94
      · have hd := wt_it hd c24
        refine lv_aload_n (pc := 43) hx hb dX4_told_43 rfl (lv_at hl 0 rfl) ?_
        refine mr_get (pc := 44) (k := 13) (v := .ref (X.1.2.1 13)) hx hb hts hown hK hW (by decide) rfl q1542 dX4_told_44 ?_
        refine lv_iload_n (pc := 47) hx hb dX4_told_47 rfl (lv_at hl 1 rfl) ?_
        obtain ⟨h29, hd⟩ := wt_ck_o hd
        refine mr_ald (pc := 48) (k := 13) hx hb hK hW rfl h29 dX4_told_48 ?_
        refine lv_goto (pc := 49) (tgt := 94) hx hb dX4_told_49 (by decide) ?_
        exact mr_iret hx hb hr rfl hlocks (wt_p1 hd) (wt_p2 hd) hW hK hS dX4_told_94
    · have hd := wt_if hd c23
      refine lv_iconst (pc := 37) (v := 0) hx hb dX4_told_37 (by decide) ?_
      exact mr_iret hx hb hr rfl hlocks (wt_p1 hd) (wt_p2 hd) hW hK hS dX4_told_38
  have hd := hj5
  refine lv_if_eq (pc := 13) (tgt := 25) hx hb dX4_told_13 (by decide) (fun c8 => ?_) (fun c8 => ?_)
  · have hd := wt_it hd c8
    exact hX7 () (Option.some.inj hd) _ _ _ hW hS hl
  · have hd := wt_if hd c8
    refine lv_iload_n (pc := 16) hx hb dX4_told_16 rfl (lv_at hl 2 rfl) ?_
    refine lv_iconst (pc := 17) (v := 0) hx hb dX4_told_17 (by decide) ?_
    refine lv_iconst (pc := 18) (v := 4) hx hb dX4_told_18 (by decide) ?_
    obtain ⟨w9, hc10, hd⟩ := wt_bd_o hd
    refine kX4_in (pc := 19) hx hb hml hown hts hK hW hS hc10 hl.1 (Nat.le_of_ble_eq_true rfl) ⟨Nat.le_of_ble_eq_true rfl, Nat.le_of_ble_eq_true rfl⟩ ⟨Nat.le_refl _, Nat.le_refl _⟩ dX4_told_19 (fun H locs hW hS => ?_)
    refine lv_if_ne (pc := 22) (tgt := 29) hx hb dX4_told_22 (by decide) (fun c11 => ?_) (fun c11 => ?_)
    · have hd := wt_if hd c11
      refine lv_iconst (pc := 29) (v := 0) hx hb dX4_told_29 (by decide) ?_
      refine lv_iconst (pc := 30) (v := 1) hx hb dX4_told_30 (by decide) ?_
      obtain ⟨w12, hc13, hd⟩ := wt_bd_o hd
      refine kX4_bad (pc := 31) hx hb hml hown hts hK hJ hW hS hc13 hl.1 (Nat.le_of_ble_eq_true rfl) ⟨Nat.le_of_ble_eq_true rfl, Nat.le_of_ble_eq_true rfl⟩ ⟨Nat.le_refl _, Nat.le_refl _⟩ dX4_told_31 (fun H locs hW hS => ?_)
      refine lv_if_eq (pc := 34) (tgt := 39) hx hb dX4_told_34 (by decide) (fun c14 => ?_) (fun c14 => ?_)
      · have hd := wt_it hd c14
        refine lv_iload_n (pc := 39) hx hb dX4_told_39 rfl (lv_at hl 2 rfl) ?_
        refine lv_if_ne (pc := 40) (tgt := 52) hx hb dX4_told_40 (by decide) (fun c15 => ?_) (fun c15 => ?_)
        · have hd := wt_if hd c15
          refine lv_iload_n (pc := 52) hx hb dX4_told_52 rfl (lv_at hl 2 rfl) ?_
          refine lv_iconst (pc := 53) (v := 1) hx hb dX4_told_53 (by decide) ?_
          refine lv_icmp_ne (pc := 54) (tgt := 66) hx hb dX4_told_54 (by decide) (fun c16 => ?_) (fun c16 => ?_)
          · have hd := wt_if hd c16
            refine lv_iload_n (pc := 66) hx hb dX4_told_66 rfl (lv_at hl 2 rfl) ?_
            refine lv_iconst (pc := 67) (v := 2) hx hb dX4_told_67 (by decide) ?_
            refine lv_icmp_ne (pc := 68) (tgt := 78) hx hb dX4_told_68 (by decide) (fun c17 => ?_) (fun c17 => ?_)
            · have hd := wt_if hd c17
              refine lv_iload_n (pc := 78) hx hb dX4_told_78 rfl (lv_at hl 2 rfl) ?_
              refine lv_iconst (pc := 79) (v := 3) hx hb dX4_told_79 (by decide) ?_
              refine lv_icmp_ne (pc := 80) (tgt := 90) hx hb dX4_told_80 (by decide) (fun c18 => ?_) (fun c18 => ?_)
              · have hd := wt_if hd c18
                refine lv_aload_n (pc := 90) hx hb dX4_told_90 rfl (lv_at hl 0 rfl) ?_
                refine mr_get (pc := 91) (k := 11) (v := .int ((w12.2.1 11))) hx hb hts hown hK hW (by decide) rfl q1540 dX4_told_91 ?_
                have hd := wt_rs_r (Option.some.inj hd) hq6
                exact mr_iret hx hb hr rfl hlocks (wt_p1 hd) (wt_p2 hd) hW hK hS dX4_told_94
              · have hd := wt_it hd c18
                refine lv_aload_n (pc := 83) hx hb dX4_told_83 rfl (lv_at hl 0 rfl) ?_
                refine mr_get (pc := 84) (k := 10) (v := .int ((w12.2.1 10))) hx hb hts hown hK hW (by decide) rfl q1539 dX4_told_84 ?_
                refine lv_goto (pc := 87) (tgt := 94) hx hb dX4_told_87 (by decide) ?_
                have hd := wt_rs_r (Option.some.inj hd) hq6
                exact mr_iret hx hb hr rfl hlocks (wt_p1 hd) (wt_p2 hd) hW hK hS dX4_told_94
            · have hd := wt_it hd c17
              refine lv_aload_n (pc := 71) hx hb dX4_told_71 rfl (lv_at hl 0 rfl) ?_
              refine mr_get (pc := 72) (k := 9) (v := .int ((w12.2.1 9))) hx hb hts hown hK hW (by decide) rfl q1538 dX4_told_72 ?_
              refine lv_goto (pc := 75) (tgt := 94) hx hb dX4_told_75 (by decide) ?_
              have hd := wt_rs_r (Option.some.inj hd) hq6
              exact mr_iret hx hb hr rfl hlocks (wt_p1 hd) (wt_p2 hd) hW hK hS dX4_told_94
          · have hd := wt_it hd c16
            refine lv_aload_n (pc := 57) hx hb dX4_told_57 rfl (lv_at hl 0 rfl) ?_
            refine mr_get (pc := 58) (k := 14) (v := .ref (X.1.2.1 14)) hx hb hts hown hK hW (by decide) rfl q1543 dX4_told_58 ?_
            refine lv_iload_n (pc := 61) hx hb dX4_told_61 rfl (lv_at hl 1 rfl) ?_
            obtain ⟨h19, hd⟩ := wt_ck_o hd
            refine mr_ald (pc := 62) (k := 14) hx hb hK hW rfl h19 dX4_told_62 ?_
            refine lv_goto (pc := 63) (tgt := 94) hx hb dX4_told_63 (by decide) ?_
            have hd := wt_rs_r (Option.some.inj hd) hq6
            exact mr_iret hx hb hr rfl hlocks (wt_p1 hd) (wt_p2 hd) hW hK hS dX4_told_94
        · have hd := wt_it hd c15
          refine lv_aload_n (pc := 43) hx hb dX4_told_43 rfl (lv_at hl 0 rfl) ?_
          refine mr_get (pc := 44) (k := 13) (v := .ref (X.1.2.1 13)) hx hb hts hown hK hW (by decide) rfl q1542 dX4_told_44 ?_
          refine lv_iload_n (pc := 47) hx hb dX4_told_47 rfl (lv_at hl 1 rfl) ?_
          obtain ⟨h20, hd⟩ := wt_ck_o hd
          refine mr_ald (pc := 48) (k := 13) hx hb hK hW rfl h20 dX4_told_48 ?_
          refine lv_goto (pc := 49) (tgt := 94) hx hb dX4_told_49 (by decide) ?_
          have hd := wt_rs_r (Option.some.inj hd) hq6
          exact mr_iret hx hb hr rfl hlocks (wt_p1 hd) (wt_p2 hd) hW hK hS dX4_told_94
      · have hd := wt_if hd c14
        refine lv_iconst (pc := 37) (v := 0) hx hb dX4_told_37 (by decide) ?_
        have hd := wt_rs_r (Option.some.inj hd) hq6
        exact mr_iret hx hb hr rfl hlocks (wt_p1 hd) (wt_p2 hd) hW hK hS dX4_told_38
    · have hd := wt_it hd c11
      exact hX7 () (Option.some.inj hd) _ _ _ hW hS hl
noncomputable def bX4_alikeOf_2 (σ : MSt) (v2 : Int32 × Int32) (v13 : Int32 × Int32) : Option ((Int32 × Int32) ⊕ (Int32)) :=
  if (10 : Int32) ≤ v13.2 then (some (.inr v13.1)) else (if ((v2.1 >>> (v13.2 &&& 31)) &&& (1 : Int32)) = (1 : Int32) then (wt_ck (vp_in v13.2 10) <| wt_lt ((v13.1 ||| (σ.2.1 15 v13.2.toNatClampNeg))) fun n27 => wt_lt (v13.2 + (1 : Int32)) fun n28 => some (.inl (n27, n28))) else (wt_lt (v13.2 + (1 : Int32)) fun n25 => some (.inl (v13.1, n25))))
noncomputable def bX4_alikeOf_1 (σ : MSt) (v2 : Int32 × Int32) : Option ((Int32 × Int32) ⊕ (Int32)) :=
  if v2.1 = v2.2 then (some (.inr v2.1)) else (wt_bd (wt_whC (bX4_alikeOf_2 σ v2) (v2.1, (0 : Int32))) fun w14 => some (.inl (w14, v2.1)))
noncomputable def dX4_alikeOf (σ : MSt) (a0 : Int32) : Option (Int32) :=
  wt_lt (((1 : Int32) <<< (a0 &&& 31))) fun n1 => wt_bd (wt_whC (bX4_alikeOf_1 σ) (n1, (0 : Int32))) fun w3 => some w3
set_option maxHeartbeats 4000000 in
theorem wX4_alikeOf (l : Launch) {X : MPar} {lo hi : Nat} (hJ : mJ X lo hi) {σ : MSt} {a0 : Int32} {out_ : Int32} (hd : dX4_alikeOf σ a0 = some out_) : Met l yX4_alikeOf (ws_ yX4_alikeOf cX4_alikeOf 5 (some .int)) ({ frames := 0, cells := 0, slots := 0, locals := 0 }) (mP X σ [.ref X.1.1, .int a0]) (mQi X out_ σ (mA lo hi)) 0 0 (mA lo hi) := by
  refine Met.ofW (cc := cX4_alikeOf) (maxL := 5) (ret := (some .int)) (by decide) rfl ?_
  intro p_ e_ s_ m_ args_ below_ meth_ c_ s₁_ B hml hv
  obtain ⟨rfl, hW, hK⟩ := hv
  have hx := B.exec
  have hb := B.bytes
  have hr := B.returns
  have hts := atoms_spec (ws := (ws_ yX4_alikeOf cX4_alikeOf 5 (some .int))) B.pre
  have hts : ∀ w ∈ lw_all, w.before _ s_ = true := fun w h => hts w (List.mem_cons_of_mem _ h)
  have hown : s_.vm.findClass RX4 = some m_.cls := findClass_of_methodNamed B.named
  have hlocks := B.notSynchronized
  have hS : va_S (mA lo hi) s_.heap s_.heap [] := va_S.rf
  have hl := lv_entry ([.ref X.1.1, .int a0]) (n := 5) (Nat.le_of_ble_eq_true rfl)
  rw [lg_entry_eq]
  generalize (lg_sl ([.ref X.1.1, .int a0]) ++ List.replicate (5 - (lg_sl ([.ref X.1.1, .int a0])).length) Slot.unset).toArray = ls at hl ⊢
  have hl : lv_has ls 5 [(0, .ref X.1.1), (1, .int a0)] := hl
  unfold dX4_alikeOf at hd
  refine lv_iconst (pc := 0) (v := 1) hx hb dX4_alikeOf_0 (by decide) ?_
  refine lv_iload_n (pc := 1) hx hb dX4_alikeOf_1 rfl (lv_at hl 1 rfl) ?_
  refine lv_ishl (pc := 2) hx hb dX4_alikeOf_2 ?_
  obtain ⟨n1, en1, hd⟩ := wt_lt_o hd
  refine lv_tope en1 ?_
  refine lv_istore_n (pc := 3) (lv' := [(2, .int n1), (0, .ref X.1.1), (1, .int a0)]) hx hb dX4_alikeOf_3 rfl hl (by decide) rfl (fun ls hl => ?_)
  refine lv_iconst (pc := 4) (v := 0) hx hb dX4_alikeOf_4 (by decide) ?_
  refine lv_istore_n (pc := 5) (lv' := [(3, .int (0 : Int32)), (2, .int n1), (0, .ref X.1.1), (1, .int a0)]) hx hb dX4_alikeOf_5 rfl hl (by decide) rfl (fun ls hl => ?_)
  obtain ⟨w3, hL4, hq5⟩ := wt_bd_o hd
  have hX6 : ∀ w3_ : Int32, w3_ = w3 → ∀ (H : Heap) (locs : List Loc) (ls : Array Slot), mW X σ H → va_S (mA lo hi) s_.heap H locs → lv_has ls 5 [(2, .int w3_)] → W p_ l e_ (headSpec (ws_ yX4_alikeOf cX4_alikeOf 5 (some .int)) ({ frames := 0, cells := 0, slots := 0, locals := 0 })).room s_ m_ ([.ref X.1.1, .int a0] : List Value).toArray below_ meth_ c_ H locs 0 0 (MQ below_ (mQi X out_ σ (mA lo hi)) ([.ref X.1.1, .int a0] : List Value).toArray s_ 0 0 (mA lo hi)) (F0 m_ 52 ls []) := by
    intro w3_ hw_
    have hd := hq5
    subst hw_
    clear hL4 hq5
    intro H locs ls hW hS hl
    refine lv_iload_n (pc := 52) hx hb dX4_alikeOf_52 rfl (lv_at hl 0 rfl) ?_
    exact mr_iret hx hb hr rfl hlocks (Option.some.inj hd) rfl hW hK hS dX4_alikeOf_53
  have hI11 : ∀ (k10 : Nat) (v2 : Int32 × Int32), wt_wh (bX4_alikeOf_1 σ) k10 v2 = some w3 → ∀ (H : Heap) (locs : List Loc) (ls : Array Slot), mW X σ H → va_S (mA lo hi) s_.heap H locs → lv_has ls 5 [(0, .ref X.1.1), (2, .int v2.1), (3, .int v2.2)] → W p_ l e_ (headSpec (ws_ yX4_alikeOf cX4_alikeOf 5 (some .int)) ({ frames := 0, cells := 0, slots := 0, locals := 0 })).room s_ m_ ([.ref X.1.1, .int a0] : List Value).toArray below_ meth_ c_ H locs 0 0 (MQ below_ (mQi X out_ σ (mA lo hi)) ([.ref X.1.1, .int a0] : List Value).toArray s_ 0 0 (mA lo hi)) (F0 m_ 6 ls []) := by
    intro k10
    induction k10 with
    | zero => intro v2 hd; exact absurd hd wt_wh_z
    | succ k10 ih8 =>
      intro v2 hd
      intro H locs ls hW hS hl
      obtain ⟨r9, hd, hk7⟩ := wt_wh_o hd
      unfold bX4_alikeOf_1 at hd
      refine lv_iload_n (pc := 6) hx hb dX4_alikeOf_6 rfl (lv_at hl 1 rfl) ?_
      refine lv_iload_n (pc := 7) hx hb dX4_alikeOf_7 rfl (lv_at hl 2 rfl) ?_
      refine lv_icmp_eq (pc := 8) (tgt := 52) hx hb dX4_alikeOf_8 (by decide) (fun c12 => ?_) (fun c12 => ?_)
      · have hd := wt_it hd c12
        exact hX6 v2.1 (wt_exit hd hk7) _ _ _ hW hS (lv_sub hl [1] rfl)
      · have hd := wt_if hd c12
        refine lv_iload_n (pc := 11) hx hb dX4_alikeOf_11 rfl (lv_at hl 1 rfl) ?_
        refine lv_istore_n (pc := 12) (lv' := [(3, .int v2.1), (0, .ref X.1.1), (2, .int v2.1)]) hx hb dX4_alikeOf_12 rfl hl (by decide) rfl (fun ls hl => ?_)
        refine lv_iconst (pc := 13) (v := 0) hx hb dX4_alikeOf_13 (by decide) ?_
        refine lv_istore (pc := 14) (lv' := [(4, .int (0 : Int32)), (3, .int v2.1), (0, .ref X.1.1), (2, .int v2.1)]) hx hb dX4_alikeOf_14 hl (by decide) rfl (fun ls hl => ?_)
        obtain ⟨w14, hL15, hq16⟩ := wt_bd_o hd
        have hX17 : ∀ w14_ : Int32, w14_ = w14 → ∀ (H : Heap) (locs : List Loc) (ls : Array Slot), mW X σ H → va_S (mA lo hi) s_.heap H locs → lv_has ls 5 [(0, .ref X.1.1), (2, .int w14_), (3, .int v2.1)] → W p_ l e_ (headSpec (ws_ yX4_alikeOf cX4_alikeOf 5 (some .int)) ({ frames := 0, cells := 0, slots := 0, locals := 0 })).room s_ m_ ([.ref X.1.1, .int a0] : List Value).toArray below_ meth_ c_ H locs 0 0 (MQ below_ (mQi X out_ σ (mA lo hi)) ([.ref X.1.1, .int a0] : List Value).toArray s_ 0 0 (mA lo hi)) (F0 m_ 49 ls []) := by
          intro w14_ hw_
          have hd := hq16
          subst hw_
          clear hL15 hq16
          intro H locs ls hW hS hl
          refine lv_goto (pc := 49) (tgt := 6) hx hb dX4_alikeOf_49 (by decide) ?_
          exact ih8 _ (wt_again hd hk7) _ _ _ hW hS hl
        have hI22 : ∀ (k21 : Nat) (v13 : Int32 × Int32), wt_wh (bX4_alikeOf_2 σ v2) k21 v13 = some w14 → ∀ (H : Heap) (locs : List Loc) (ls : Array Slot), mW X σ H → va_S (mA lo hi) s_.heap H locs → lv_has ls 5 [(0, .ref X.1.1), (2, .int v13.1), (3, .int v2.1), (4, .int v13.2)] → W p_ l e_ (headSpec (ws_ yX4_alikeOf cX4_alikeOf 5 (some .int)) ({ frames := 0, cells := 0, slots := 0, locals := 0 })).room s_ m_ ([.ref X.1.1, .int a0] : List Value).toArray below_ meth_ c_ H locs 0 0 (MQ below_ (mQi X out_ σ (mA lo hi)) ([.ref X.1.1, .int a0] : List Value).toArray s_ 0 0 (mA lo hi)) (F0 m_ 16 ls []) := by
          intro k21
          induction k21 with
          | zero => intro v13 hd; exact absurd hd wt_wh_z
          | succ k21 ih19 =>
            intro v13 hd
            intro H locs ls hW hS hl
            obtain ⟨r20, hd, hk18⟩ := wt_wh_o hd
            unfold bX4_alikeOf_2 at hd
            refine lv_iload (pc := 16) hx hb dX4_alikeOf_16 (lv_at hl 3 rfl) ?_
            refine lv_bipush (pc := 18) (v := 10) hx hb dX4_alikeOf_18 (by decide) ?_
            refine lv_icmp_ge (pc := 20) (tgt := 49) hx hb dX4_alikeOf_20 (by decide) (fun c23 => ?_) (fun c23 => ?_)
            · have hd := wt_it hd c23
              exact hX17 v13.1 (wt_exit hd hk18) _ _ _ hW hS (lv_sub hl [0, 1, 2] rfl)
            · have hd := wt_if hd c23
              refine lv_iload_n (pc := 23) hx hb dX4_alikeOf_23 rfl (lv_at hl 2 rfl) ?_
              refine lv_iload (pc := 24) hx hb dX4_alikeOf_24 (lv_at hl 3 rfl) ?_
              refine lv_ishr (pc := 26) hx hb dX4_alikeOf_26 ?_
              refine lv_iconst (pc := 27) (v := 1) hx hb dX4_alikeOf_27 (by decide) ?_
              refine lv_iand (pc := 28) hx hb dX4_alikeOf_28 ?_
              refine lv_iconst (pc := 29) (v := 1) hx hb dX4_alikeOf_29 (by decide) ?_
              refine lv_icmp_ne (pc := 30) (tgt := 43) hx hb dX4_alikeOf_30 (by decide) (fun c24 => ?_) (fun c24 => ?_)
              · have hd := wt_if hd c24
                obtain ⟨n25, en25, hd⟩ := wt_lt_o hd
                refine lv_iinc (pc := 43) (k := 3) (v := n25) (lv' := [(4, .int n25), (0, .ref X.1.1), (2, .int v13.1), (3, .int v2.1)]) hx hb dX4_alikeOf_43 hl rfl en25.symm (by decide) rfl (fun ls hl => ?_)
                refine lv_goto (pc := 46) (tgt := 16) hx hb dX4_alikeOf_46 (by decide) ?_
                exact ih19 _ (wt_again hd hk18) _ _ _ hW hS (lv_sub hl [1, 2, 3, 0] rfl)
              · have hd := wt_it hd c24
                refine lv_iload_n (pc := 33) hx hb dX4_alikeOf_33 rfl (lv_at hl 1 rfl) ?_
                refine lv_aload_n (pc := 34) hx hb dX4_alikeOf_34 rfl (lv_at hl 0 rfl) ?_
                refine mr_get (pc := 35) (k := 15) (v := .ref (X.1.2.1 15)) hx hb hts hown hK hW (by decide) rfl q1544 dX4_alikeOf_35 ?_
                refine lv_iload (pc := 38) hx hb dX4_alikeOf_38 (lv_at hl 3 rfl) ?_
                obtain ⟨h26, hd⟩ := wt_ck_o hd
                refine mr_ald (pc := 40) (k := 15) hx hb hK hW rfl h26 dX4_alikeOf_40 ?_
                refine lv_ior (pc := 41) hx hb dX4_alikeOf_41 ?_
                obtain ⟨n27, en27, hd⟩ := wt_lt_o hd
                refine lv_tope en27 ?_
                refine lv_istore_n (pc := 42) (lv' := [(2, .int n27), (0, .ref X.1.1), (3, .int v2.1), (4, .int v13.2)]) hx hb dX4_alikeOf_42 rfl hl (by decide) rfl (fun ls hl => ?_)
                obtain ⟨n28, en28, hd⟩ := wt_lt_o hd
                refine lv_iinc (pc := 43) (k := 3) (v := n28) (lv' := [(4, .int n28), (2, .int n27), (0, .ref X.1.1), (3, .int v2.1)]) hx hb dX4_alikeOf_43 hl rfl en28.symm (by decide) rfl (fun ls hl => ?_)
                refine lv_goto (pc := 46) (tgt := 16) hx hb dX4_alikeOf_46 (by decide) ?_
                exact ih19 _ (wt_again hd hk18) _ _ _ hW hS (lv_sub hl [2, 1, 3, 0] rfl)
        obtain ⟨k21, hL15⟩ := wt_whC_o hL15
        exact hI22 k21 _ hL15 _ _ _ hW hS (lv_sub hl [2, 3, 1, 0] rfl)
  obtain ⟨k10, hL4⟩ := wt_whC_o hL4
  exact hI11 k10 _ hL4 _ _ _ hW hS (lv_sub hl [2, 1, 0] rfl)
theorem kX4_alikeOf {p : Program} {l : Launch} {e : Env} {R : Room} {s : State} {m : MethodId} {args : Array Value} {below : List Frame} {meth : Method} {c : Code} {H : Heap} {locs : List Loc} {cells slots : Nat} {Q : State → Prop} {cc : ByteArray} {pc : Nat} {ls : Array Slot} {rest : List Value} {H0 : Heap} {nL : Nat} {X : MPar} {lo hi : Nat} {σ : MSt} {a0 : Int32} {out_ : Int32} (hx : p.tables.exec = Jvm.exec) (hb : c.code = cc) (hml : c.maxLocals = nL) (hown : s.vm.findClass RX4 = some m.cls) (hts : ∀ w ∈ lw_all, w.before args s = true) (hK : mK X s) (hJ : mJ X lo hi) (hW : mW X σ H) (hS : va_S (mA lo hi) H0 H locs) (hd : dX4_alikeOf σ a0 = some out_) (hsz : ls.size = nL) (hrm : (rest.map fun v => v.category).sum ≤ 8) (hR : 1 ≤ R.frames ∧ 24 ≤ R.locals) (hcs : cells ≤ R.cells ∧ slots ≤ R.slots) (hdg : decode cc pc = .ok (.invokevirtual 202, 3)) (kk : ∀ (H1 : Heap) (locs1 : List Loc), mW X σ H1 → va_S (mA lo hi) H0 H1 locs1 → W p l e R s m args below meth c H1 locs1 cells slots Q (F0 m (pc + 3) ls (.int out_ :: rest))) : W p l e R s m args below meth c H locs cells slots Q (F0 m pc ls (.int a0 :: .ref X.1.1 :: rest)) := by
  refine va_calli (va_runV (As := [.int a0]) (rest := rest) ⟨hx, hb, hml, hown, hts⟩ (wX4_alikeOf l hJ hd) (cwV 1 hts (lw_V q1781 q1783 qs39 q88 q1784) rfl rfl rfl (by decide +kernel) hR) (mr_pre hK hW) rfl rfl hsz rfl (lv_room hrm) hdg hcs) hS (fun _ _ h => h) (fun _ h => h) (fun r u t H1 locs1 ht hvm hp hB hz hk hS1 => ?_)
  have hp : r = out_ := hp
  subst hp
  have hW1 : mW X σ t.heap := hB.1
  rw [ht] at hW1
  exact kk H1 locs1 hW1 hS1
noncomputable def dX4_alike (σ : MSt) (a0 : Int32) : Option (Int32 × MSt) :=
  wt_lt (m_sF σ 0 (0 : Int32)) fun σ1 => wt_bd (dX4_in a0 (0 : Int32) (9 : Int32)) fun w2 => wt_bd (if w2 = 0 then (some (1 : Int32)) else (some (0 : Int32))) fun w4 => wt_bd (dX4_bad σ1 w4 (1 : Int32)) fun w9 => if w9.1 = 0 then (wt_bd (dX4_alikeOf w9.2 a0) fun w12 => some (w12, w9.2)) else (some ((0 : Int32), w9.2))
set_option maxHeartbeats 4000000 in
theorem wX4_alike (l : Launch) {X : MPar} {lo hi : Nat} (hJ : mJ X lo hi) {σ : MSt} {a0 : Int32} {out_ : Int32 × MSt} (hd : dX4_alike σ a0 = some out_) : Met l yX4_alike (ws_ yX4_alike cX4_alike 2 (some .int)) ({ frames := 1, cells := 0, slots := 0, locals := 24 }) (mP X σ [.ref X.1.1, .int a0]) (mQi X out_.1 out_.2 (mA lo hi)) 0 0 (mA lo hi) := by
  refine Met.ofW (cc := cX4_alike) (maxL := 2) (ret := (some .int)) (by decide) rfl ?_
  intro p_ e_ s_ m_ args_ below_ meth_ c_ s₁_ B hml hv
  obtain ⟨rfl, hW, hK⟩ := hv
  have hx := B.exec
  have hb := B.bytes
  have hr := B.returns
  have hts := atoms_spec (ws := (ws_ yX4_alike cX4_alike 2 (some .int))) B.pre
  have hts : ∀ w ∈ lw_all, w.before _ s_ = true := fun w h => hts w (List.mem_cons_of_mem _ h)
  have hown : s_.vm.findClass RX4 = some m_.cls := findClass_of_methodNamed B.named
  have hlocks := B.notSynchronized
  have hS : va_S (mA lo hi) s_.heap s_.heap [] := va_S.rf
  have hl := lv_entry ([.ref X.1.1, .int a0]) (n := 2) (Nat.le_of_ble_eq_true rfl)
  rw [lg_entry_eq]
  generalize (lg_sl ([.ref X.1.1, .int a0]) ++ List.replicate (2 - (lg_sl ([.ref X.1.1, .int a0])).length) Slot.unset).toArray = ls at hl ⊢
  have hl : lv_has ls 2 [(0, .ref X.1.1), (1, .int a0)] := hl
  unfold dX4_alike at hd
  refine lv_aload_n (pc := 0) hx hb dX4_alike_0 rfl (lv_at hl 0 rfl) ?_
  refine lv_iconst (pc := 1) (v := 0) hx hb dX4_alike_1 (by decide) ?_
  obtain ⟨σ1, eσ1, hd⟩ := wt_lt_o hd
  refine mr_put (pc := 2) (k := 0) hx hb hts hown hK hW hJ hS (by decide) rfl eσ1 q1529 dX4_alike_2 (fun H locs hW hS => ?_)
  refine lv_aload_n (pc := 5) hx hb dX4_alike_5 rfl (lv_at hl 0 rfl) ?_
  refine lv_iload_n (pc := 6) hx hb dX4_alike_6 rfl (lv_at hl 1 rfl) ?_
  refine lv_iconst (pc := 7) (v := 0) hx hb dX4_alike_7 (by decide) ?_
  refine lv_bipush (pc := 8) (v := 9) hx hb dX4_alike_8 (by decide) ?_
  obtain ⟨w2, hc3, hd⟩ := wt_bd_o hd
  refine kX4_in (pc := 10) hx hb hml hown hts hK hW hS hc3 hl.1 (Nat.le_of_ble_eq_true rfl) ⟨Nat.le_of_ble_eq_true rfl, Nat.le_of_ble_eq_true rfl⟩ ⟨Nat.le_refl _, Nat.le_refl _⟩ dX4_alike_10 (fun H locs hW hS => ?_)
  obtain ⟨w4, hj5, hq6⟩ := wt_bd_o hd
  have hX7 : ∀ w4_ : Int32, w4_ = w4 → ∀ (H : Heap) (locs : List Loc) (ls : Array Slot), mW X σ1 H → va_S (mA lo hi) s_.heap H locs → lv_has ls 2 [(0, .ref X.1.1), (1, .int a0)] → W p_ l e_ (headSpec (ws_ yX4_alike cX4_alike 2 (some .int)) ({ frames := 1, cells := 0, slots := 0, locals := 24 })).room s_ m_ ([.ref X.1.1, .int a0] : List Value).toArray below_ meth_ c_ H locs 0 0 (MQ below_ (mQi X out_.1 out_.2 (mA lo hi)) ([.ref X.1.1, .int a0] : List Value).toArray s_ 0 0 (mA lo hi)) (F0 m_ 21 ls [.int w4_, .ref X.1.1]) := by
    intro w4_ hw_
    have hd := hq6
    subst hw_
    clear hj5 hq6
    intro H locs ls hW hS hl
    refine lv_iconst (pc := 21) (v := 1) hx hb dX4_alike_21 (by decide) ?_
    obtain ⟨w9, hc10, hd⟩ := wt_bd_o hd
    refine kX4_bad (pc := 22) hx hb hml hown hts hK hJ hW hS hc10 hl.1 (Nat.le_of_ble_eq_true rfl) ⟨Nat.le_of_ble_eq_true rfl, Nat.le_of_ble_eq_true rfl⟩ ⟨Nat.le_refl _, Nat.le_refl _⟩ dX4_alike_22 (fun H locs hW hS => ?_)
    refine lv_if_eq (pc := 25) (tgt := 30) hx hb dX4_alike_25 (by decide) (fun c11 => ?_) (fun c11 => ?_)
    · have hd := wt_it hd c11
      refine lv_aload_n (pc := 30) hx hb dX4_alike_30 rfl (lv_at hl 0 rfl) ?_
      refine lv_iload_n (pc := 31) hx hb dX4_alike_31 rfl (lv_at hl 1 rfl) ?_
      obtain ⟨w12, hc13, hd⟩ := wt_bd_o hd
      refine kX4_alikeOf (pc := 32) hx hb hml hown hts hK hJ hW hS hc13 hl.1 (Nat.le_of_ble_eq_true rfl) ⟨Nat.le_of_ble_eq_true rfl, Nat.le_of_ble_eq_true rfl⟩ ⟨Nat.le_refl _, Nat.le_refl _⟩ dX4_alike_32 (fun H locs hW hS => ?_)
      exact mr_iret hx hb hr rfl hlocks (wt_p1 hd) (wt_p2 hd) hW hK hS dX4_alike_35
    · have hd := wt_if hd c11
      refine lv_iconst (pc := 28) (v := 0) hx hb dX4_alike_28 (by decide) ?_
      exact mr_iret hx hb hr rfl hlocks (wt_p1 hd) (wt_p2 hd) hW hK hS dX4_alike_29
  have hd := hj5
  refine lv_if_ne (pc := 13) (tgt := 20) hx hb dX4_alike_13 (by decide) (fun c8 => ?_) (fun c8 => ?_)
  · have hd := wt_if hd c8
    refine lv_iconst (pc := 20) (v := 0) hx hb dX4_alike_20 (by decide) ?_
    exact hX7 (0 : Int32) (Option.some.inj hd) _ _ _ hW hS hl
  · have hd := wt_it hd c8
    refine lv_iconst (pc := 16) (v := 1) hx hb dX4_alike_16 (by decide) ?_
    refine lv_goto (pc := 17) (tgt := 21) hx hb dX4_alike_17 (by decide) ?_
    exact hX7 (1 : Int32) (Option.some.inj hd) _ _ _ hW hS hl
noncomputable def dX4_isStory (σ : MSt) (a0 : Int32) : Option (Int32) :=
  wt_bd (dX4_in a0 (0 : Int32) ((σ.1 24) - (1 : Int32))) fun w1 => wt_ck (narrow .boolean (.int w1) = Value.int w1) <| some w1
set_option maxHeartbeats 4000000 in
theorem wX4_isStory (l : Launch) {X : MPar} {lo hi : Nat} (hJ : mJ X lo hi) {σ : MSt} {a0 : Int32} {out_ : Int32} (hd : dX4_isStory σ a0 = some out_) : Met l yX4_isStory (ws_ yX4_isStory cX4_isStory 2 (some .boolean)) ({ frames := 1, cells := 0, slots := 0, locals := 22 }) (mP X σ [.ref X.1.1, .int a0]) (mQi X out_ σ (mA lo hi)) 0 0 (mA lo hi) := by
  refine Met.ofW (cc := cX4_isStory) (maxL := 2) (ret := (some .boolean)) (by decide) rfl ?_
  intro p_ e_ s_ m_ args_ below_ meth_ c_ s₁_ B hml hv
  obtain ⟨rfl, hW, hK⟩ := hv
  have hx := B.exec
  have hb := B.bytes
  have hr := B.returns
  have hts := atoms_spec (ws := (ws_ yX4_isStory cX4_isStory 2 (some .boolean))) B.pre
  have hts : ∀ w ∈ lw_all, w.before _ s_ = true := fun w h => hts w (List.mem_cons_of_mem _ h)
  have hown : s_.vm.findClass RX4 = some m_.cls := findClass_of_methodNamed B.named
  have hlocks := B.notSynchronized
  have hS : va_S (mA lo hi) s_.heap s_.heap [] := va_S.rf
  have hl := lv_entry ([.ref X.1.1, .int a0]) (n := 2) (Nat.le_of_ble_eq_true rfl)
  rw [lg_entry_eq]
  generalize (lg_sl ([.ref X.1.1, .int a0]) ++ List.replicate (2 - (lg_sl ([.ref X.1.1, .int a0])).length) Slot.unset).toArray = ls at hl ⊢
  have hl : lv_has ls 2 [(0, .ref X.1.1), (1, .int a0)] := hl
  unfold dX4_isStory at hd
  refine lv_iload_n (pc := 0) hx hb dX4_isStory_0 rfl (lv_at hl 1 rfl) ?_
  refine lv_iconst (pc := 1) (v := 0) hx hb dX4_isStory_1 (by decide) ?_
  refine lv_aload_n (pc := 2) hx hb dX4_isStory_2 rfl (lv_at hl 0 rfl) ?_
  refine mr_get (pc := 3) (k := 24) (v := .int ((σ.1 24))) hx hb hts hown hK hW (by decide) rfl q1553 dX4_isStory_3 ?_
  refine lv_iconst (pc := 6) (v := 1) hx hb dX4_isStory_6 (by decide) ?_
  refine lv_isub (pc := 7) hx hb dX4_isStory_7 ?_
  obtain ⟨w1, hc2, hd⟩ := wt_bd_o hd
  refine kX4_in (pc := 8) hx hb hml hown hts hK hW hS hc2 hl.1 (Nat.le_of_ble_eq_true rfl) ⟨Nat.le_of_ble_eq_true rfl, Nat.le_of_ble_eq_true rfl⟩ ⟨Nat.le_refl _, Nat.le_refl _⟩ dX4_isStory_8 (fun H locs hW hS => ?_)
  obtain ⟨h3, hd⟩ := wt_ck_o hd
  exact mr_iret hx hb hr h3 hlocks (Option.some.inj hd) rfl hW hK hS dX4_isStory_11
theorem kX4_isStory {p : Program} {l : Launch} {e : Env} {R : Room} {s : State} {m : MethodId} {args : Array Value} {below : List Frame} {meth : Method} {c : Code} {H : Heap} {locs : List Loc} {cells slots : Nat} {Q : State → Prop} {cc : ByteArray} {pc : Nat} {ls : Array Slot} {rest : List Value} {H0 : Heap} {nL : Nat} {X : MPar} {lo hi : Nat} {σ : MSt} {a0 : Int32} {out_ : Int32} (hx : p.tables.exec = Jvm.exec) (hb : c.code = cc) (hml : c.maxLocals = nL) (hown : s.vm.findClass RX4 = some m.cls) (hts : ∀ w ∈ lw_all, w.before args s = true) (hK : mK X s) (hJ : mJ X lo hi) (hW : mW X σ H) (hS : va_S (mA lo hi) H0 H locs) (hd : dX4_isStory σ a0 = some out_) (hsz : ls.size = nL) (hrm : (rest.map fun v => v.category).sum ≤ 8) (hR : 2 ≤ R.frames ∧ 43 ≤ R.locals) (hcs : cells ≤ R.cells ∧ slots ≤ R.slots) (hdg : decode cc pc = .ok (.invokevirtual 235, 3)) (kk : ∀ (H1 : Heap) (locs1 : List Loc), mW X σ H1 → va_S (mA lo hi) H0 H1 locs1 → W p l e R s m args below meth c H1 locs1 cells slots Q (F0 m (pc + 3) ls (.int out_ :: rest))) : W p l e R s m args below meth c H locs cells slots Q (F0 m pc ls (.int a0 :: .ref X.1.1 :: rest)) := by
  refine va_calli (va_runV (As := [.int a0]) (rest := rest) ⟨hx, hb, hml, hown, hts⟩ (wX4_isStory l hJ hd) (cwV 1 hts (lw_V q1789 q1791 qs40 q88 q1792) rfl rfl rfl (by decide +kernel) hR) (mr_pre hK hW) rfl rfl hsz rfl (lv_room hrm) hdg hcs) hS (fun _ _ h => h) (fun _ h => h) (fun r u t H1 locs1 ht hvm hp hB hz hk hS1 => ?_)
  have hp : r = out_ := hp
  subst hp
  have hW1 : mW X σ t.heap := hB.1
  rw [ht] at hW1
  exact kk H1 locs1 hW1 hS1
noncomputable def dX4_badPlace (σ : MSt) (a0 : Int32) (a1 : Int32) (a2 : Int32) (a3 : Int32) : Option (Int32 × MSt) :=
  wt_bd (dX4_in a0 (0 : Int32) (9 : Int32)) fun w1 => wt_bd (if w1 = 0 then (some (.inl ())) else (wt_bd (dX4_in a1 (0 : Int32) (9 : Int32)) fun w8 => if w8 = 0 then (some (.inl ())) else (wt_bd (dX4_in a2 (0 : Int32) (99 : Int32)) fun w11 => if w11 = 0 then (some (.inl ())) else (wt_bd (dX4_bad σ (0 : Int32) a3) fun w14 => wt_ck (narrow .boolean (.int w14.1) = Value.int w14.1) <| some (.inr (w14.1, w14.2)))))) fun w3 => wt_rs w3 (fun w3 => wt_bd (dX4_bad σ (1 : Int32) a3) fun w17 => wt_ck (narrow .boolean (.int w17.1) = Value.int w17.1) <| some (w17.1, w17.2)) (fun z_ => some z_)
set_option maxHeartbeats 4000000 in
theorem wX4_badPlace (l : Launch) {X : MPar} {lo hi : Nat} (hJ : mJ X lo hi) {σ : MSt} {a0 : Int32} {a1 : Int32} {a2 : Int32} {a3 : Int32} {out_ : Int32 × MSt} (hd : dX4_badPlace σ a0 a1 a2 a3 = some out_) : Met l yX4_badPlace (ws_ yX4_badPlace cX4_badPlace 5 (some .boolean)) ({ frames := 1, cells := 0, slots := 0, locals := 22 }) (mP X σ [.ref X.1.1, .int a0, .int a1, .int a2, .int a3]) (mQi X out_.1 out_.2 (mA lo hi)) 0 0 (mA lo hi) := by
  refine Met.ofW (cc := cX4_badPlace) (maxL := 5) (ret := (some .boolean)) (by decide) rfl ?_
  intro p_ e_ s_ m_ args_ below_ meth_ c_ s₁_ B hml hv
  obtain ⟨rfl, hW, hK⟩ := hv
  have hx := B.exec
  have hb := B.bytes
  have hr := B.returns
  have hts := atoms_spec (ws := (ws_ yX4_badPlace cX4_badPlace 5 (some .boolean))) B.pre
  have hts : ∀ w ∈ lw_all, w.before _ s_ = true := fun w h => hts w (List.mem_cons_of_mem _ h)
  have hown : s_.vm.findClass RX4 = some m_.cls := findClass_of_methodNamed B.named
  have hlocks := B.notSynchronized
  have hS : va_S (mA lo hi) s_.heap s_.heap [] := va_S.rf
  have hl := lv_entry ([.ref X.1.1, .int a0, .int a1, .int a2, .int a3]) (n := 5) (Nat.le_of_ble_eq_true rfl)
  rw [lg_entry_eq]
  generalize (lg_sl ([.ref X.1.1, .int a0, .int a1, .int a2, .int a3]) ++ List.replicate (5 - (lg_sl ([.ref X.1.1, .int a0, .int a1, .int a2, .int a3])).length) Slot.unset).toArray = ls at hl ⊢
  have hl : lv_has ls 5 [(0, .ref X.1.1), (1, .int a0), (2, .int a1), (3, .int a2), (4, .int a3)] := hl
  unfold dX4_badPlace at hd
  refine lv_aload_n (pc := 0) hx hb dX4_badPlace_0 rfl (lv_at hl 0 rfl) ?_
  refine lv_iload_n (pc := 1) hx hb dX4_badPlace_1 rfl (lv_at hl 1 rfl) ?_
  refine lv_iconst (pc := 2) (v := 0) hx hb dX4_badPlace_2 (by decide) ?_
  refine lv_bipush (pc := 3) (v := 9) hx hb dX4_badPlace_3 (by decide) ?_
  obtain ⟨w1, hc2, hd⟩ := wt_bd_o hd
  refine kX4_in (pc := 5) hx hb hml hown hts hK hW hS hc2 hl.1 (Nat.le_of_ble_eq_true rfl) ⟨Nat.le_of_ble_eq_true rfl, Nat.le_of_ble_eq_true rfl⟩ ⟨Nat.le_refl _, Nat.le_refl _⟩ dX4_badPlace_5 (fun H locs hW hS => ?_)
  obtain ⟨w3, hj4, hq5⟩ := wt_bd_o hd
  have hX6 : ∀ w3_ : Unit, (Sum.inl w3_ : Unit ⊕ _) = w3 → ∀ (H : Heap) (locs : List Loc) (ls : Array Slot), mW X σ H → va_S (mA lo hi) s_.heap H locs → lv_has ls 5 [(4, .int a3)] → W p_ l e_ (headSpec (ws_ yX4_badPlace cX4_badPlace 5 (some .boolean)) ({ frames := 1, cells := 0, slots := 0, locals := 22 })).room s_ m_ ([.ref X.1.1, .int a0, .int a1, .int a2, .int a3] : List Value).toArray below_ meth_ c_ H locs 0 0 (MQ below_ (mQi X out_.1 out_.2 (mA lo hi)) ([.ref X.1.1, .int a0, .int a1, .int a2, .int a3] : List Value).toArray s_ 0 0 (mA lo hi)) (F0 m_ 31 ls [.ref X.1.1]) := by
    intro w3_ hw_
    have hd := wt_rs_l hw_ hq5
    clear hj4 hq5
    intro H locs ls hW hS hl
    refine lv_iconst (pc := 31) (v := 1) hx hb dX4_badPlace_31 (by decide) ?_
    refine lv_goto (pc := 32) (tgt := 36) hx hb dX4_badPlace_32 (by decide) ?_
    refine lv_iload (pc := 36) hx hb dX4_badPlace_36 (lv_at hl 0 rfl) ?_
    obtain ⟨w17, hc18, hd⟩ := wt_bd_o hd
    refine kX4_bad (pc := 38) hx hb hml hown hts hK hJ hW hS hc18 hl.1 (Nat.le_of_ble_eq_true rfl) ⟨Nat.le_of_ble_eq_true rfl, Nat.le_of_ble_eq_true rfl⟩ ⟨Nat.le_refl _, Nat.le_refl _⟩ dX4_badPlace_38 (fun H locs hW hS => ?_)
    obtain ⟨h19, hd⟩ := wt_ck_o hd
    exact mr_iret hx hb hr h19 hlocks (wt_p1 hd) (wt_p2 hd) hW hK hS dX4_badPlace_41
  have hd := hj4
  refine lv_if_eq (pc := 8) (tgt := 31) hx hb dX4_badPlace_8 (by decide) (fun c7 => ?_) (fun c7 => ?_)
  · have hd := wt_it hd c7
    exact hX6 () (Option.some.inj hd) _ _ _ hW hS (lv_sub hl [4] rfl)
  · have hd := wt_if hd c7
    refine lv_iload_n (pc := 11) hx hb dX4_badPlace_11 rfl (lv_at hl 2 rfl) ?_
    refine lv_iconst (pc := 12) (v := 0) hx hb dX4_badPlace_12 (by decide) ?_
    refine lv_bipush (pc := 13) (v := 9) hx hb dX4_badPlace_13 (by decide) ?_
    obtain ⟨w8, hc9, hd⟩ := wt_bd_o hd
    refine kX4_in (pc := 15) hx hb hml hown hts hK hW hS hc9 hl.1 (Nat.le_of_ble_eq_true rfl) ⟨Nat.le_of_ble_eq_true rfl, Nat.le_of_ble_eq_true rfl⟩ ⟨Nat.le_refl _, Nat.le_refl _⟩ dX4_badPlace_15 (fun H locs hW hS => ?_)
    refine lv_if_eq (pc := 18) (tgt := 31) hx hb dX4_badPlace_18 (by decide) (fun c10 => ?_) (fun c10 => ?_)
    · have hd := wt_it hd c10
      exact hX6 () (Option.some.inj hd) _ _ _ hW hS (lv_sub hl [4] rfl)
    · have hd := wt_if hd c10
      refine lv_iload_n (pc := 21) hx hb dX4_badPlace_21 rfl (lv_at hl 3 rfl) ?_
      refine lv_iconst (pc := 22) (v := 0) hx hb dX4_badPlace_22 (by decide) ?_
      refine lv_bipush (pc := 23) (v := 99) hx hb dX4_badPlace_23 (by decide) ?_
      obtain ⟨w11, hc12, hd⟩ := wt_bd_o hd
      refine kX4_in (pc := 25) hx hb hml hown hts hK hW hS hc12 hl.1 (Nat.le_of_ble_eq_true rfl) ⟨Nat.le_of_ble_eq_true rfl, Nat.le_of_ble_eq_true rfl⟩ ⟨Nat.le_refl _, Nat.le_refl _⟩ dX4_badPlace_25 (fun H locs hW hS => ?_)
      refine lv_if_ne (pc := 28) (tgt := 35) hx hb dX4_badPlace_28 (by decide) (fun c13 => ?_) (fun c13 => ?_)
      · have hd := wt_if hd c13
        refine lv_iconst (pc := 35) (v := 0) hx hb dX4_badPlace_35 (by decide) ?_
        refine lv_iload (pc := 36) hx hb dX4_badPlace_36 (lv_at hl 4 rfl) ?_
        obtain ⟨w14, hc15, hd⟩ := wt_bd_o hd
        refine kX4_bad (pc := 38) hx hb hml hown hts hK hJ hW hS hc15 hl.1 (Nat.le_of_ble_eq_true rfl) ⟨Nat.le_of_ble_eq_true rfl, Nat.le_of_ble_eq_true rfl⟩ ⟨Nat.le_refl _, Nat.le_refl _⟩ dX4_badPlace_38 (fun H locs hW hS => ?_)
        obtain ⟨h16, hd⟩ := wt_ck_o hd
        have hd := wt_rs_r (Option.some.inj hd) hq5
        exact mr_iret hx hb hr h16 hlocks (wt_p1 hd) (wt_p2 hd) hW hK hS dX4_badPlace_41
      · have hd := wt_it hd c13
        exact hX6 () (Option.some.inj hd) _ _ _ hW hS (lv_sub hl [4] rfl)
theorem kX4_badPlace {p : Program} {l : Launch} {e : Env} {R : Room} {s : State} {m : MethodId} {args : Array Value} {below : List Frame} {meth : Method} {c : Code} {H : Heap} {locs : List Loc} {cells slots : Nat} {Q : State → Prop} {cc : ByteArray} {pc : Nat} {ls : Array Slot} {rest : List Value} {H0 : Heap} {nL : Nat} {X : MPar} {lo hi : Nat} {σ : MSt} {a0 : Int32} {a1 : Int32} {a2 : Int32} {a3 : Int32} {out_ : Int32 × MSt} (hx : p.tables.exec = Jvm.exec) (hb : c.code = cc) (hml : c.maxLocals = nL) (hown : s.vm.findClass RX4 = some m.cls) (hts : ∀ w ∈ lw_all, w.before args s = true) (hK : mK X s) (hJ : mJ X lo hi) (hW : mW X σ H) (hS : va_S (mA lo hi) H0 H locs) (hd : dX4_badPlace σ a0 a1 a2 a3 = some out_) (hsz : ls.size = nL) (hrm : (rest.map fun v => v.category).sum ≤ 8) (hR : 2 ≤ R.frames ∧ 46 ≤ R.locals) (hcs : cells ≤ R.cells ∧ slots ≤ R.slots) (hdg : decode cc pc = .ok (.invokevirtual 238, 3)) (kk : ∀ (H1 : Heap) (locs1 : List Loc), mW X out_.2 H1 → va_S (mA lo hi) H0 H1 locs1 → W p l e R s m args below meth c H1 locs1 cells slots Q (F0 m (pc + 3) ls (.int out_.1 :: rest))) : W p l e R s m args below meth c H locs cells slots Q (F0 m pc ls (.int a3 :: .int a2 :: .int a1 :: .int a0 :: .ref X.1.1 :: rest)) := by
  refine va_calli (va_runV (As := [.int a0, .int a1, .int a2, .int a3]) (rest := rest) ⟨hx, hb, hml, hown, hts⟩ (wX4_badPlace l hJ hd) (cwV 4 hts (lw_V q1793 q1795 qs41 q88 q1796) rfl rfl rfl (by decide +kernel) hR) (mr_pre hK hW) rfl rfl hsz rfl (lv_room hrm) hdg hcs) hS (fun _ _ h => h) (fun _ h => h) (fun r u t H1 locs1 ht hvm hp hB hz hk hS1 => ?_)
  have hp : r = out_.1 := hp
  subst hp
  have hW1 : mW X out_.2 t.heap := hB.1
  rw [ht] at hW1
  exact kk H1 locs1 hW1 hS1
noncomputable def dX4_areTwo (a0 : Int32) (a1 : Int32) (a2 : Int32) (a3 : Int32) : Option (Int32) :=
  wt_bd (if a0 = a2 then (if a1 = a3 then (some (.inr (1 : Int32))) else (some (.inl ()))) else (some (.inl ()))) fun w1 => wt_rs w1 (fun w1 => if a0 = a3 then (if a1 = a2 then (some (1 : Int32)) else (some (0 : Int32))) else (some (0 : Int32))) (fun z_ => some z_)
set_option maxHeartbeats 4000000 in
theorem wX4_areTwo (l : Launch) {a0 : Int32} {a1 : Int32} {a2 : Int32} {a3 : Int32} {out_ : Int32} (hd : dX4_areTwo a0 a1 a2 a3 = some out_) : Met l yX4_areTwo (ws_ yX4_areTwo cX4_areTwo 4 (some .boolean)) ({ frames := 0, cells := 0, slots := 0, locals := 0 }) (va_Pc [.int a0, .int a1, .int a2, .int a3] (fun _ => True)) (msQi out_) 0 0 (fun _ => False) := by
  refine Met.ofW (cc := cX4_areTwo) (maxL := 4) (ret := (some .boolean)) (by decide) rfl ?_
  intro p_ e_ s_ m_ args_ below_ meth_ c_ s₁_ B hml hv
  obtain ⟨rfl, -⟩ := hv
  have hx := B.exec
  have hb := B.bytes
  have hr := B.returns
  have hts := atoms_spec (ws := (ws_ yX4_areTwo cX4_areTwo 4 (some .boolean))) B.pre
  have hts : ∀ w ∈ lw_all, w.before _ s_ = true := fun w h => hts w (List.mem_cons_of_mem _ h)
  have hown : s_.vm.findClass RX4 = some m_.cls := findClass_of_methodNamed B.named
  have hlocks := B.notSynchronized
  have hS : va_S (fun _ => False) s_.heap s_.heap [] := va_S.rf
  have hl := lv_entry ([.int a0, .int a1, .int a2, .int a3]) (n := 4) (Nat.le_of_ble_eq_true rfl)
  rw [lg_entry_eq]
  generalize (lg_sl ([.int a0, .int a1, .int a2, .int a3]) ++ List.replicate (4 - (lg_sl ([.int a0, .int a1, .int a2, .int a3])).length) Slot.unset).toArray = ls at hl ⊢
  have hl : lv_has ls 4 [(0, .int a0), (1, .int a1), (2, .int a2), (3, .int a3)] := hl
  unfold dX4_areTwo at hd
  refine lv_iload_n (pc := 0) hx hb dX4_areTwo_0 rfl (lv_at hl 0 rfl) ?_
  refine lv_iload_n (pc := 1) hx hb dX4_areTwo_1 rfl (lv_at hl 2 rfl) ?_
  obtain ⟨w1, hj2, hq3⟩ := wt_bd_o hd
  have hX4 : ∀ w1_ : Unit, (Sum.inl w1_ : Unit ⊕ _) = w1 → ∀ (H : Heap) (locs : List Loc) (ls : Array Slot), va_S (fun _ => False) s_.heap H locs → lv_has ls 4 [(0, .int a0), (1, .int a1), (2, .int a2), (3, .int a3)] → W p_ l e_ (headSpec (ws_ yX4_areTwo cX4_areTwo 4 (some .boolean)) ({ frames := 0, cells := 0, slots := 0, locals := 0 })).room s_ m_ ([.int a0, .int a1, .int a2, .int a3] : List Value).toArray below_ meth_ c_ H locs 0 0 (MQ below_ (msQi out_) ([.int a0, .int a1, .int a2, .int a3] : List Value).toArray s_ 0 0 (fun _ => False)) (F0 m_ 10 ls []) := by
    intro w1_ hw_
    have hd := wt_rs_l hw_ hq3
    clear hj2 hq3
    intro H locs ls hS hl
    refine lv_iload_n (pc := 10) hx hb dX4_areTwo_10 rfl (lv_at hl 0 rfl) ?_
    refine lv_iload_n (pc := 11) hx hb dX4_areTwo_11 rfl (lv_at hl 3 rfl) ?_
    refine lv_icmp_ne (pc := 12) (tgt := 24) hx hb dX4_areTwo_12 (by decide) (fun c7 => ?_) (fun c7 => ?_)
    · have hd := wt_if hd c7
      refine lv_iconst (pc := 24) (v := 0) hx hb dX4_areTwo_24 (by decide) ?_
      exact ms_iret hx hb hr rfl hlocks (Option.some.inj hd) hS dX4_areTwo_25
    · have hd := wt_it hd c7
      refine lv_iload_n (pc := 15) hx hb dX4_areTwo_15 rfl (lv_at hl 1 rfl) ?_
      refine lv_iload_n (pc := 16) hx hb dX4_areTwo_16 rfl (lv_at hl 2 rfl) ?_
      refine lv_icmp_ne (pc := 17) (tgt := 24) hx hb dX4_areTwo_17 (by decide) (fun c8 => ?_) (fun c8 => ?_)
      · have hd := wt_if hd c8
        refine lv_iconst (pc := 24) (v := 0) hx hb dX4_areTwo_24 (by decide) ?_
        exact ms_iret hx hb hr rfl hlocks (Option.some.inj hd) hS dX4_areTwo_25
      · have hd := wt_it hd c8
        refine lv_iconst (pc := 20) (v := 1) hx hb dX4_areTwo_20 (by decide) ?_
        refine lv_goto (pc := 21) (tgt := 25) hx hb dX4_areTwo_21 (by decide) ?_
        exact ms_iret hx hb hr rfl hlocks (Option.some.inj hd) hS dX4_areTwo_25
  have hd := hj2
  refine lv_icmp_ne (pc := 2) (tgt := 10) hx hb dX4_areTwo_2 (by decide) (fun c5 => ?_) (fun c5 => ?_)
  · have hd := wt_if hd c5
    exact hX4 () (Option.some.inj hd) _ _ _ hS hl
  · have hd := wt_it hd c5
    refine lv_iload_n (pc := 5) hx hb dX4_areTwo_5 rfl (lv_at hl 1 rfl) ?_
    refine lv_iload_n (pc := 6) hx hb dX4_areTwo_6 rfl (lv_at hl 3 rfl) ?_
    refine lv_icmp_eq (pc := 7) (tgt := 20) hx hb dX4_areTwo_7 (by decide) (fun c6 => ?_) (fun c6 => ?_)
    · have hd := wt_it hd c6
      refine lv_iconst (pc := 20) (v := 1) hx hb dX4_areTwo_20 (by decide) ?_
      refine lv_goto (pc := 21) (tgt := 25) hx hb dX4_areTwo_21 (by decide) ?_
      have hd := wt_rs_r (Option.some.inj hd) hq3
      exact ms_iret hx hb hr rfl hlocks (Option.some.inj hd) hS dX4_areTwo_25
    · have hd := wt_if hd c6
      exact hX4 () (Option.some.inj hd) _ _ _ hS hl
theorem kX4_areTwo {p : Program} {l : Launch} {e : Env} {R : Room} {s : State} {m : MethodId} {args : Array Value} {below : List Frame} {meth : Method} {c : Code} {H : Heap} {locs : List Loc} {cells slots : Nat} {Q : State → Prop} {cc : ByteArray} {pc : Nat} {ls : Array Slot} {rest : List Value} {H0 : Heap} {nL : Nat} {X : MPar} {σ : MSt} {A : Nat → Prop} {a0 : Int32} {a1 : Int32} {a2 : Int32} {a3 : Int32} {out_ : Int32} (hx : p.tables.exec = Jvm.exec) (hb : c.code = cc) (hml : c.maxLocals = nL) (hown : s.vm.findClass RX4 = some m.cls) (hts : ∀ w ∈ lw_all, w.before args s = true) (hK : mK X s) (hW : mW X σ H) (hS : va_S A H0 H locs) (hd : dX4_areTwo a0 a1 a2 a3 = some out_) (hsz : ls.size = nL) (hrm : (rest.map fun v => v.category).sum ≤ 8) (hR : 1 ≤ R.frames ∧ 23 ≤ R.locals) (hcs : cells ≤ R.cells ∧ slots ≤ R.slots) (hdg : decode cc pc = .ok (.invokestatic 208, 3)) (kk : ∀ (H1 : Heap) (locs1 : List Loc), mW X σ H1 → va_S A H0 H1 locs1 → W p l e R s m args below meth c H1 locs1 cells slots Q (F0 m (pc + 3) ls (.int out_ :: rest))) : W p l e R s m args below meth c H locs cells slots Q (F0 m pc ls (.int a3 :: .int a2 :: .int a1 :: .int a0 :: rest)) := by
  refine va_calli (va_runS (As := [.int a0, .int a1, .int a2, .int a3]) (rest := rest) ⟨hx, hb, hml, hown, hts⟩ (wX4_areTwo l hd) (va_cwS 4 hts (lw_S q1805 q1806 q88 q1807) rfl rfl rfl (by decide +kernel) hR) ms_pre rfl rfl hsz rfl (lv_room hrm) hdg hcs) hS (fun _ _ h => h.elim) (fun _ h => h.elim) (fun r u t H1 locs1 ht hvm hp hB hz hk hS1 => ?_)
  have hp : r = out_ := hp
  subst hp
  exact kk H1 locs1 (hW.kept fun q hq => hk q hq (fun h => h)) hS1
noncomputable def dX4_comes (σ : MSt) (a0 : Int32) (a1 : Nat) : Option (Int32) :=
  if a0 = (σ.1 41) then (some (0 : Int32)) else (if (σ.1 45) = (-1 : Int32) then (some (1 : Int32)) else (wt_ck (vp_in (0 : Int32) 4) <| if (σ.2.2 26 a1 (0 : Int32).toNatClampNeg) = (2 : Int32) then (wt_ck (vp_in (1 : Int32) 4) <| wt_ck (vp_in (2 : Int32) 4) <| wt_bd (dX4_areTwo (σ.2.2 26 a1 (1 : Int32).toNatClampNeg) (σ.2.2 26 a1 (2 : Int32).toNatClampNeg) (σ.1 45) (σ.1 47)) fun w7 => if w7 = 0 then (wt_ck (vp_in (1 : Int32) 4) <| wt_ck (vp_in (2 : Int32) 4) <| wt_bd (dX4_areTwo (σ.2.2 26 a1 (1 : Int32).toNatClampNeg) (σ.2.2 26 a1 (2 : Int32).toNatClampNeg) (σ.1 46) (σ.1 47)) fun w12 => if w12 = 0 then (some (0 : Int32)) else (some (1 : Int32))) else (some (1 : Int32))) else (some (1 : Int32))))
set_option maxHeartbeats 4000000 in
theorem wX4_comes (l : Launch) {X : MPar} {lo hi : Nat} (hJ : mJ X lo hi) {σ : MSt} {a0 : Int32} {a1 : Nat} {out_ : Int32} (ha1_ : a1 < 80) (hd : dX4_comes σ a0 a1 = some out_) : Met l yX4_comes (ws_ yX4_comes cX4_comes 3 (some .boolean)) ({ frames := 1, cells := 0, slots := 0, locals := 23 }) (mP X σ [.ref X.1.1, .int a0, .ref (X.1.2.2 26 a1)]) (mQi X out_ σ (mA lo hi)) 0 0 (mA lo hi) := by
  refine Met.ofW (cc := cX4_comes) (maxL := 3) (ret := (some .boolean)) (by decide) rfl ?_
  intro p_ e_ s_ m_ args_ below_ meth_ c_ s₁_ B hml hv
  obtain ⟨rfl, hW, hK⟩ := hv
  have hx := B.exec
  have hb := B.bytes
  have hr := B.returns
  have hts := atoms_spec (ws := (ws_ yX4_comes cX4_comes 3 (some .boolean))) B.pre
  have hts : ∀ w ∈ lw_all, w.before _ s_ = true := fun w h => hts w (List.mem_cons_of_mem _ h)
  have hown : s_.vm.findClass RX4 = some m_.cls := findClass_of_methodNamed B.named
  have hlocks := B.notSynchronized
  have hS : va_S (mA lo hi) s_.heap s_.heap [] := va_S.rf
  have hl := lv_entry ([.ref X.1.1, .int a0, .ref (X.1.2.2 26 a1)]) (n := 3) (Nat.le_of_ble_eq_true rfl)
  rw [lg_entry_eq]
  generalize (lg_sl ([.ref X.1.1, .int a0, .ref (X.1.2.2 26 a1)]) ++ List.replicate (3 - (lg_sl ([.ref X.1.1, .int a0, .ref (X.1.2.2 26 a1)])).length) Slot.unset).toArray = ls at hl ⊢
  have hl : lv_has ls 3 [(0, .ref X.1.1), (1, .int a0), (2, .ref (X.1.2.2 26 a1))] := hl
  unfold dX4_comes at hd
  refine lv_iload_n (pc := 0) hx hb dX4_comes_0 rfl (lv_at hl 1 rfl) ?_
  refine lv_aload_n (pc := 1) hx hb dX4_comes_1 rfl (lv_at hl 0 rfl) ?_
  refine mr_get (pc := 2) (k := 41) (v := .int ((σ.1 41))) hx hb hts hown hK hW (by decide) rfl q1570 dX4_comes_2 ?_
  refine lv_icmp_ne (pc := 5) (tgt := 10) hx hb dX4_comes_5 (by decide) (fun c1 => ?_) (fun c1 => ?_)
  · have hd := wt_if hd c1
    refine lv_aload_n (pc := 10) hx hb dX4_comes_10 rfl (lv_at hl 0 rfl) ?_
    refine mr_get (pc := 11) (k := 45) (v := .int ((σ.1 45))) hx hb hts hown hK hW (by decide) rfl q1574 dX4_comes_11 ?_
    refine lv_iconst (pc := 14) (v := -1) hx hb dX4_comes_14 (by decide) ?_
    refine lv_icmp_eq (pc := 15) (tgt := 65) hx hb dX4_comes_15 (by decide) (fun c2 => ?_) (fun c2 => ?_)
    · have hd := wt_it hd c2
      refine lv_iconst (pc := 65) (v := 1) hx hb dX4_comes_65 (by decide) ?_
      refine lv_goto (pc := 66) (tgt := 70) hx hb dX4_comes_66 (by decide) ?_
      exact mr_iret hx hb hr rfl hlocks (Option.some.inj hd) rfl hW hK hS dX4_comes_70
    · have hd := wt_if hd c2
      refine lv_aload_n (pc := 18) hx hb dX4_comes_18 rfl (lv_at hl 2 rfl) ?_
      refine lv_iconst (pc := 19) (v := 0) hx hb dX4_comes_19 (by decide) ?_
      obtain ⟨h3, hd⟩ := wt_ck_o hd
      refine mr_gld (pc := 20) (k := 26) (i := a1) hx hb hK hW ha1_ rfl h3 dX4_comes_20 ?_
      refine lv_iconst (pc := 21) (v := 2) hx hb dX4_comes_21 (by decide) ?_
      refine lv_icmp_ne (pc := 22) (tgt := 65) hx hb dX4_comes_22 (by decide) (fun c4 => ?_) (fun c4 => ?_)
      · have hd := wt_if hd c4
        refine lv_iconst (pc := 65) (v := 1) hx hb dX4_comes_65 (by decide) ?_
        refine lv_goto (pc := 66) (tgt := 70) hx hb dX4_comes_66 (by decide) ?_
        exact mr_iret hx hb hr rfl hlocks (Option.some.inj hd) rfl hW hK hS dX4_comes_70
      · have hd := wt_it hd c4
        refine lv_aload_n (pc := 25) hx hb dX4_comes_25 rfl (lv_at hl 2 rfl) ?_
        refine lv_iconst (pc := 26) (v := 1) hx hb dX4_comes_26 (by decide) ?_
        obtain ⟨h5, hd⟩ := wt_ck_o hd
        refine mr_gld (pc := 27) (k := 26) (i := a1) hx hb hK hW ha1_ rfl h5 dX4_comes_27 ?_
        refine lv_aload_n (pc := 28) hx hb dX4_comes_28 rfl (lv_at hl 2 rfl) ?_
        refine lv_iconst (pc := 29) (v := 2) hx hb dX4_comes_29 (by decide) ?_
        obtain ⟨h6, hd⟩ := wt_ck_o hd
        refine mr_gld (pc := 30) (k := 26) (i := a1) hx hb hK hW ha1_ rfl h6 dX4_comes_30 ?_
        refine lv_aload_n (pc := 31) hx hb dX4_comes_31 rfl (lv_at hl 0 rfl) ?_
        refine mr_get (pc := 32) (k := 45) (v := .int ((σ.1 45))) hx hb hts hown hK hW (by decide) rfl q1574 dX4_comes_32 ?_
        refine lv_aload_n (pc := 35) hx hb dX4_comes_35 rfl (lv_at hl 0 rfl) ?_
        refine mr_get (pc := 36) (k := 47) (v := .int ((σ.1 47))) hx hb hts hown hK hW (by decide) rfl q1576 dX4_comes_36 ?_
        obtain ⟨w7, hc8, hd⟩ := wt_bd_o hd
        refine kX4_areTwo (pc := 39) hx hb hml hown hts hK hW hS hc8 hl.1 (Nat.le_of_ble_eq_true rfl) ⟨Nat.le_of_ble_eq_true rfl, Nat.le_of_ble_eq_true rfl⟩ ⟨Nat.le_refl _, Nat.le_refl _⟩ dX4_comes_39 (fun H locs hW hS => ?_)
        refine lv_if_ne (pc := 42) (tgt := 65) hx hb dX4_comes_42 (by decide) (fun c9 => ?_) (fun c9 => ?_)
        · have hd := wt_if hd c9
          refine lv_iconst (pc := 65) (v := 1) hx hb dX4_comes_65 (by decide) ?_
          refine lv_goto (pc := 66) (tgt := 70) hx hb dX4_comes_66 (by decide) ?_
          exact mr_iret hx hb hr rfl hlocks (Option.some.inj hd) rfl hW hK hS dX4_comes_70
        · have hd := wt_it hd c9
          refine lv_aload_n (pc := 45) hx hb dX4_comes_45 rfl (lv_at hl 2 rfl) ?_
          refine lv_iconst (pc := 46) (v := 1) hx hb dX4_comes_46 (by decide) ?_
          obtain ⟨h10, hd⟩ := wt_ck_o hd
          refine mr_gld (pc := 47) (k := 26) (i := a1) hx hb hK hW ha1_ rfl h10 dX4_comes_47 ?_
          refine lv_aload_n (pc := 48) hx hb dX4_comes_48 rfl (lv_at hl 2 rfl) ?_
          refine lv_iconst (pc := 49) (v := 2) hx hb dX4_comes_49 (by decide) ?_
          obtain ⟨h11, hd⟩ := wt_ck_o hd
          refine mr_gld (pc := 50) (k := 26) (i := a1) hx hb hK hW ha1_ rfl h11 dX4_comes_50 ?_
          refine lv_aload_n (pc := 51) hx hb dX4_comes_51 rfl (lv_at hl 0 rfl) ?_
          refine mr_get (pc := 52) (k := 46) (v := .int ((σ.1 46))) hx hb hts hown hK hW (by decide) rfl q1575 dX4_comes_52 ?_
          refine lv_aload_n (pc := 55) hx hb dX4_comes_55 rfl (lv_at hl 0 rfl) ?_
          refine mr_get (pc := 56) (k := 47) (v := .int ((σ.1 47))) hx hb hts hown hK hW (by decide) rfl q1576 dX4_comes_56 ?_
          obtain ⟨w12, hc13, hd⟩ := wt_bd_o hd
          refine kX4_areTwo (pc := 59) hx hb hml hown hts hK hW hS hc13 hl.1 (Nat.le_of_ble_eq_true rfl) ⟨Nat.le_of_ble_eq_true rfl, Nat.le_of_ble_eq_true rfl⟩ ⟨Nat.le_refl _, Nat.le_refl _⟩ dX4_comes_59 (fun H locs hW hS => ?_)
          refine lv_if_eq (pc := 62) (tgt := 69) hx hb dX4_comes_62 (by decide) (fun c14 => ?_) (fun c14 => ?_)
          · have hd := wt_it hd c14
            refine lv_iconst (pc := 69) (v := 0) hx hb dX4_comes_69 (by decide) ?_
            exact mr_iret hx hb hr rfl hlocks (Option.some.inj hd) rfl hW hK hS dX4_comes_70
          · have hd := wt_if hd c14
            refine lv_iconst (pc := 65) (v := 1) hx hb dX4_comes_65 (by decide) ?_
            refine lv_goto (pc := 66) (tgt := 70) hx hb dX4_comes_66 (by decide) ?_
            exact mr_iret hx hb hr rfl hlocks (Option.some.inj hd) rfl hW hK hS dX4_comes_70
  · have hd := wt_it hd c1
    refine lv_iconst (pc := 8) (v := 0) hx hb dX4_comes_8 (by decide) ?_
    exact mr_iret hx hb hr rfl hlocks (Option.some.inj hd) rfl hW hK hS dX4_comes_9
theorem kX4_comes {p : Program} {l : Launch} {e : Env} {R : Room} {s : State} {m : MethodId} {args : Array Value} {below : List Frame} {meth : Method} {c : Code} {H : Heap} {locs : List Loc} {cells slots : Nat} {Q : State → Prop} {cc : ByteArray} {pc : Nat} {ls : Array Slot} {rest : List Value} {H0 : Heap} {nL : Nat} {X : MPar} {lo hi : Nat} {σ : MSt} {a0 : Int32} {a1 : Nat} {out_ : Int32} (hx : p.tables.exec = Jvm.exec) (hb : c.code = cc) (hml : c.maxLocals = nL) (hown : s.vm.findClass RX4 = some m.cls) (hts : ∀ w ∈ lw_all, w.before args s = true) (hK : mK X s) (hJ : mJ X lo hi) (hW : mW X σ H) (hS : va_S (mA lo hi) H0 H locs) (hd : dX4_comes σ a0 a1 = some out_) (ha1_ : a1 < 80) (hsz : ls.size = nL) (hrm : (rest.map fun v => v.category).sum ≤ 8) (hR : 2 ≤ R.frames ∧ 45 ≤ R.locals) (hcs : cells ≤ R.cells ∧ slots ≤ R.slots) (hdg : decode cc pc = .ok (.invokevirtual 221, 3)) (kk : ∀ (H1 : Heap) (locs1 : List Loc), mW X σ H1 → va_S (mA lo hi) H0 H1 locs1 → W p l e R s m args below meth c H1 locs1 cells slots Q (F0 m (pc + 3) ls (.int out_ :: rest))) : W p l e R s m args below meth c H locs cells slots Q (F0 m pc ls (.ref (X.1.2.2 26 a1) :: .int a0 :: .ref X.1.1 :: rest)) := by
  refine va_calli (va_runV (As := [.int a0, .ref (X.1.2.2 26 a1)]) (rest := rest) ⟨hx, hb, hml, hown, hts⟩ (wX4_comes l hJ ha1_ hd) (cwV 2 hts (lw_V q1801 q1803 qs43 q88 q1804) rfl rfl rfl (by decide +kernel) hR) (mr_pre hK hW) rfl rfl hsz rfl (lv_room hrm) hdg hcs) hS (fun _ _ h => h) (fun _ h => h) (fun r u t H1 locs1 ht hvm hp hB hz hk hS1 => ?_)
  have hp : r = out_ := hp
  subst hp
  have hW1 : mW X σ t.heap := hB.1
  rw [ht] at hW1
  exact kk H1 locs1 hW1 hS1
noncomputable def bX4_touches_1 (a0 : Int32) (a1 : Int32) (v1 : Int32 × MSt) : Option ((Int32 × MSt) ⊕ (MSt)) :=
  if (10 : Int32) ≤ v1.1 then (some (.inr v1.2)) else (wt_ck (vp_in a0 10) <| wt_ck (vp_in v1.1 10) <| wt_lt ((v1.2.2.2 39 (a0.toNatClampNeg) v1.1.toNatClampNeg)) fun n14 => wt_ck (vp_in a1 10) <| wt_ck (vp_in v1.1 10) <| wt_lt ((v1.2.2.2 39 (a1.toNatClampNeg) v1.1.toNatClampNeg)) fun n17 => wt_lt (((n14 * (v1.2.1 10)) / (16 : Int32))) fun n18 => wt_lt (((n17 * (v1.2.1 10)) / (16 : Int32))) fun n19 => wt_ck (vp_in a1 10) <| wt_bd (if (v1.2.2.1 40 a1.toNatClampNeg) = (-1 : Int32) then (some (0 : Int32)) else (wt_ck (vp_in a1 10) <| wt_ck (vp_in (v1.2.2.1 40 a1.toNatClampNeg) 8) <| wt_ck (vp_in v1.1 10) <| some (v1.2.2.2 12 (((v1.2.2.1 40 a1.toNatClampNeg)).toNatClampNeg) v1.1.toNatClampNeg))) fun w21 => wt_ck (vp_in a0 10) <| wt_bd (if (v1.2.2.1 40 a0.toNatClampNeg) = (-1 : Int32) then (some (0 : Int32)) else (wt_ck (vp_in a0 10) <| wt_ck (vp_in (v1.2.2.1 40 a0.toNatClampNeg) 8) <| wt_ck (vp_in v1.1 10) <| some (v1.2.2.2 12 (((v1.2.2.1 40 a0.toNatClampNeg)).toNatClampNeg) v1.1.toNatClampNeg))) fun w30 => wt_ck (vp_in a0 10) <| wt_bd (dX4_less (9999 : Int32) (((n14 - n18) + n19) + w21)) fun w39 => wt_ck (vp_in v1.1 10) <| wt_lt (m_sG v1.2 39 (a0.toNatClampNeg) v1.1.toNatClampNeg w39) fun σ42 => wt_ck (vp_in a1 10) <| wt_bd (dX4_less (9999 : Int32) (((n17 - n19) + n18) + w30)) fun w44 => wt_ck (vp_in v1.1 10) <| wt_lt (m_sG σ42 39 (a1.toNatClampNeg) v1.1.toNatClampNeg w44) fun σ47 => wt_lt (v1.1 + (1 : Int32)) fun n48 => some (.inl (n48, σ47)))
noncomputable def dX4_touches (σ : MSt) (a0 : Int32) (a1 : Int32) : Option (MSt) :=
  wt_bd (wt_whC (bX4_touches_1 a0 a1) ((0 : Int32), σ)) fun w2 => some w2
set_option maxHeartbeats 4000000 in
theorem wX4_touches (l : Launch) {X : MPar} {lo hi : Nat} (hJ : mJ X lo hi) {σ : MSt} {a0 : Int32} {a1 : Int32} {out_ : MSt} (hd : dX4_touches σ a0 a1 = some out_) : Met l yX4_touches (ws_ yX4_touches cX4_touches 10 none) ({ frames := 1, cells := 0, slots := 0, locals := 21 }) (mP X σ [.ref X.1.1, .int a0, .int a1]) (mQv X out_ (mA lo hi)) 0 0 (mA lo hi) := by
  refine Met.ofW (cc := cX4_touches) (maxL := 10) (ret := none) (by decide) rfl ?_
  intro p_ e_ s_ m_ args_ below_ meth_ c_ s₁_ B hml hv
  obtain ⟨rfl, hW, hK⟩ := hv
  have hx := B.exec
  have hb := B.bytes
  have hr := B.returns
  have hts := atoms_spec (ws := (ws_ yX4_touches cX4_touches 10 none)) B.pre
  have hts : ∀ w ∈ lw_all, w.before _ s_ = true := fun w h => hts w (List.mem_cons_of_mem _ h)
  have hown : s_.vm.findClass RX4 = some m_.cls := findClass_of_methodNamed B.named
  have hlocks := B.notSynchronized
  have hS : va_S (mA lo hi) s_.heap s_.heap [] := va_S.rf
  have hl := lv_entry ([.ref X.1.1, .int a0, .int a1]) (n := 10) (Nat.le_of_ble_eq_true rfl)
  rw [lg_entry_eq]
  generalize (lg_sl ([.ref X.1.1, .int a0, .int a1]) ++ List.replicate (10 - (lg_sl ([.ref X.1.1, .int a0, .int a1])).length) Slot.unset).toArray = ls at hl ⊢
  have hl : lv_has ls 10 [(0, .ref X.1.1), (1, .int a0), (2, .int a1)] := hl
  unfold dX4_touches at hd
  refine lv_iconst (pc := 0) (v := 0) hx hb dX4_touches_0 (by decide) ?_
  refine lv_istore_n (pc := 1) (lv' := [(3, .int (0 : Int32)), (0, .ref X.1.1), (1, .int a0), (2, .int a1)]) hx hb dX4_touches_1 rfl hl (by decide) rfl (fun ls hl => ?_)
  obtain ⟨w2, hL3, hq4⟩ := wt_bd_o hd
  have hX5 : ∀ w2_ : MSt, w2_ = w2 → ∀ (H : Heap) (locs : List Loc) (ls : Array Slot), mW X w2_ H → va_S (mA lo hi) s_.heap H locs → lv_has ls 10 [] → W p_ l e_ (headSpec (ws_ yX4_touches cX4_touches 10 none) ({ frames := 1, cells := 0, slots := 0, locals := 21 })).room s_ m_ ([.ref X.1.1, .int a0, .int a1] : List Value).toArray below_ meth_ c_ H locs 0 0 (MQ below_ (mQv X out_ (mA lo hi)) ([.ref X.1.1, .int a0, .int a1] : List Value).toArray s_ 0 0 (mA lo hi)) (F0 m_ 166 ls []) := by
    intro w2_ hw_
    have hd := hq4
    subst hw_
    clear hL3 hq4
    intro H locs ls hW hS hl
    exact mr_vret hx hb hr hlocks (Option.some.inj hd) hW hK hS dX4_touches_166
  have hI10 : ∀ (k9 : Nat) (v1 : Int32 × MSt), wt_wh (bX4_touches_1 a0 a1) k9 v1 = some w2 → ∀ (H : Heap) (locs : List Loc) (ls : Array Slot), mW X v1.2 H → va_S (mA lo hi) s_.heap H locs → lv_has ls 10 [(0, .ref X.1.1), (1, .int a0), (2, .int a1), (3, .int v1.1)] → W p_ l e_ (headSpec (ws_ yX4_touches cX4_touches 10 none) ({ frames := 1, cells := 0, slots := 0, locals := 21 })).room s_ m_ ([.ref X.1.1, .int a0, .int a1] : List Value).toArray below_ meth_ c_ H locs 0 0 (MQ below_ (mQv X out_ (mA lo hi)) ([.ref X.1.1, .int a0, .int a1] : List Value).toArray s_ 0 0 (mA lo hi)) (F0 m_ 2 ls []) := by
    intro k9
    induction k9 with
    | zero => intro v1 hd; exact absurd hd wt_wh_z
    | succ k9 ih7 =>
      intro v1 hd
      intro H locs ls hW hS hl
      obtain ⟨r8, hd, hk6⟩ := wt_wh_o hd
      unfold bX4_touches_1 at hd
      refine lv_iload_n (pc := 2) hx hb dX4_touches_2 rfl (lv_at hl 3 rfl) ?_
      refine lv_bipush (pc := 3) (v := 10) hx hb dX4_touches_3 (by decide) ?_
      refine lv_icmp_ge (pc := 5) (tgt := 166) hx hb dX4_touches_5 (by decide) (fun c11 => ?_) (fun c11 => ?_)
      · have hd := wt_it hd c11
        exact hX5 v1.2 (wt_exit hd hk6) _ _ _ hW hS (lv_sub hl [] rfl)
      · have hd := wt_if hd c11
        refine lv_aload_n (pc := 8) hx hb dX4_touches_8 rfl (lv_at hl 0 rfl) ?_
        refine mr_get (pc := 9) (k := 39) (v := .ref (X.1.2.1 39)) hx hb hts hown hK hW (by decide) rfl q1568 dX4_touches_9 ?_
        refine lv_iload_n (pc := 12) hx hb dX4_touches_12 rfl (lv_at hl 1 rfl) ?_
        obtain ⟨h12, hd⟩ := wt_ck_o hd
        refine mr_row (pc := 13) (k := 39) hx hb hK hW rfl h12 dX4_touches_13 ?_
        refine lv_iload_n (pc := 14) hx hb dX4_touches_14 rfl (lv_at hl 3 rfl) ?_
        obtain ⟨h13, hd⟩ := wt_ck_o hd
        refine mr_gld (pc := 15) (k := 39) (i := (a0.toNatClampNeg)) hx hb hK hW (vp_lt h12) rfl h13 dX4_touches_15 ?_
        obtain ⟨n14, en14, hd⟩ := wt_lt_o hd
        refine lv_tope en14 ?_
        refine lv_istore (pc := 16) (lv' := [(4, .int n14), (0, .ref X.1.1), (1, .int a0), (2, .int a1), (3, .int v1.1)]) hx hb dX4_touches_16 hl (by decide) rfl (fun ls hl => ?_)
        refine lv_aload_n (pc := 18) hx hb dX4_touches_18 rfl (lv_at hl 1 rfl) ?_
        refine mr_get (pc := 19) (k := 39) (v := .ref (X.1.2.1 39)) hx hb hts hown hK hW (by decide) rfl q1568 dX4_touches_19 ?_
        refine lv_iload_n (pc := 22) hx hb dX4_touches_22 rfl (lv_at hl 3 rfl) ?_
        obtain ⟨h15, hd⟩ := wt_ck_o hd
        refine mr_row (pc := 23) (k := 39) hx hb hK hW rfl h15 dX4_touches_23 ?_
        refine lv_iload_n (pc := 24) hx hb dX4_touches_24 rfl (lv_at hl 4 rfl) ?_
        obtain ⟨h16, hd⟩ := wt_ck_o hd
        refine mr_gld (pc := 25) (k := 39) (i := (a1.toNatClampNeg)) hx hb hK hW (vp_lt h15) rfl h16 dX4_touches_25 ?_
        obtain ⟨n17, en17, hd⟩ := wt_lt_o hd
        refine lv_tope en17 ?_
        refine lv_istore (pc := 26) (lv' := [(5, .int n17), (4, .int n14), (0, .ref X.1.1), (1, .int a0), (2, .int a1), (3, .int v1.1)]) hx hb dX4_touches_26 hl (by decide) rfl (fun ls hl => ?_)
        refine lv_iload (pc := 28) hx hb dX4_touches_28 (lv_at hl 1 rfl) ?_
        refine lv_aload_n (pc := 30) hx hb dX4_touches_30 rfl (lv_at hl 2 rfl) ?_
        refine mr_get (pc := 31) (k := 10) (v := .int ((v1.2.1 10))) hx hb hts hown hK hW (by decide) rfl q1539 dX4_touches_31 ?_
        refine lv_imul (pc := 34) hx hb dX4_touches_34 ?_
        refine lv_bipush (pc := 35) (v := 16) hx hb dX4_touches_35 (by decide) ?_
        refine lv_idiv (pc := 37) hx hb dX4_touches_37 (by decide) ?_
        obtain ⟨n18, en18, hd⟩ := wt_lt_o hd
        refine lv_tope en18 ?_
        refine lv_istore (pc := 38) (lv' := [(6, .int n18), (5, .int n17), (4, .int n14), (0, .ref X.1.1), (1, .int a0), (2, .int a1), (3, .int v1.1)]) hx hb dX4_touches_38 hl (by decide) rfl (fun ls hl => ?_)
        refine lv_iload (pc := 40) hx hb dX4_touches_40 (lv_at hl 1 rfl) ?_
        refine lv_aload_n (pc := 42) hx hb dX4_touches_42 rfl (lv_at hl 3 rfl) ?_
        refine mr_get (pc := 43) (k := 10) (v := .int ((v1.2.1 10))) hx hb hts hown hK hW (by decide) rfl q1539 dX4_touches_43 ?_
        refine lv_imul (pc := 46) hx hb dX4_touches_46 ?_
        refine lv_bipush (pc := 47) (v := 16) hx hb dX4_touches_47 (by decide) ?_
        refine lv_idiv (pc := 49) hx hb dX4_touches_49 (by decide) ?_
        obtain ⟨n19, en19, hd⟩ := wt_lt_o hd
        refine lv_tope en19 ?_
        refine lv_istore (pc := 50) (lv' := [(7, .int n19), (6, .int n18), (5, .int n17), (4, .int n14), (0, .ref X.1.1), (1, .int a0), (2, .int a1), (3, .int v1.1)]) hx hb dX4_touches_50 hl (by decide) rfl (fun ls hl => ?_)
        refine lv_aload_n (pc := 52) hx hb dX4_touches_52 rfl (lv_at hl 4 rfl) ?_
        refine mr_get (pc := 53) (k := 40) (v := .ref (X.1.2.1 40)) hx hb hts hown hK hW (by decide) rfl q1569 dX4_touches_53 ?_
        refine lv_iload_n (pc := 56) hx hb dX4_touches_56 rfl (lv_at hl 6 rfl) ?_
        obtain ⟨h20, hd⟩ := wt_ck_o hd
        refine mr_ald (pc := 57) (k := 40) hx hb hK hW rfl h20 dX4_touches_57 ?_
        refine lv_iconst (pc := 58) (v := -1) hx hb dX4_touches_58 (by decide) ?_
        obtain ⟨w21, hj22, hq23⟩ := wt_bd_o hd
        have hX24 : ∀ w21_ : Int32, w21_ = w21 → ∀ (H : Heap) (locs : List Loc) (ls : Array Slot), mW X v1.2 H → va_S (mA lo hi) s_.heap H locs → lv_has ls 10 [(0, .ref X.1.1), (1, .int a0), (2, .int a1), (3, .int v1.1), (4, .int n14), (5, .int n17), (6, .int n18), (7, .int n19)] → W p_ l e_ (headSpec (ws_ yX4_touches cX4_touches 10 none) ({ frames := 1, cells := 0, slots := 0, locals := 21 })).room s_ m_ ([.ref X.1.1, .int a0, .int a1] : List Value).toArray below_ meth_ c_ H locs 0 0 (MQ below_ (mQv X out_ (mA lo hi)) ([.ref X.1.1, .int a0, .int a1] : List Value).toArray s_ 0 0 (mA lo hi)) (F0 m_ 79 ls [.int w21_]) := by
          intro w21_ hw_
          have hd := hq23
          subst hw_
          clear hj22 hq23
          intro H locs ls hW hS hl
          refine lv_istore (pc := 79) (lv' := [(8, .int w21_), (0, .ref X.1.1), (1, .int a0), (2, .int a1), (3, .int v1.1), (4, .int n14), (5, .int n17), (6, .int n18), (7, .int n19)]) hx hb dX4_touches_79 hl (by decide) rfl (fun ls hl => ?_)
          refine lv_aload_n (pc := 81) hx hb dX4_touches_81 rfl (lv_at hl 1 rfl) ?_
          refine mr_get (pc := 82) (k := 40) (v := .ref (X.1.2.1 40)) hx hb hts hown hK hW (by decide) rfl q1569 dX4_touches_82 ?_
          refine lv_iload_n (pc := 85) hx hb dX4_touches_85 rfl (lv_at hl 2 rfl) ?_
          obtain ⟨h29, hd⟩ := wt_ck_o hd
          refine mr_ald (pc := 86) (k := 40) hx hb hK hW rfl h29 dX4_touches_86 ?_
          refine lv_iconst (pc := 87) (v := -1) hx hb dX4_touches_87 (by decide) ?_
          obtain ⟨w30, hj31, hq32⟩ := wt_bd_o hd
          have hX33 : ∀ w30_ : Int32, w30_ = w30 → ∀ (H : Heap) (locs : List Loc) (ls : Array Slot), mW X v1.2 H → va_S (mA lo hi) s_.heap H locs → lv_has ls 10 [(0, .ref X.1.1), (1, .int a0), (2, .int a1), (3, .int v1.1), (4, .int n14), (5, .int n17), (6, .int n18), (7, .int n19), (8, .int w21_)] → W p_ l e_ (headSpec (ws_ yX4_touches cX4_touches 10 none) ({ frames := 1, cells := 0, slots := 0, locals := 21 })).room s_ m_ ([.ref X.1.1, .int a0, .int a1] : List Value).toArray below_ meth_ c_ H locs 0 0 (MQ below_ (mQv X out_ (mA lo hi)) ([.ref X.1.1, .int a0, .int a1] : List Value).toArray s_ 0 0 (mA lo hi)) (F0 m_ 108 ls [.int w30_]) := by
            intro w30_ hw_
            have hd := hq32
            subst hw_
            clear hj31 hq32
            intro H locs ls hW hS hl
            refine lv_istore (pc := 108) (lv' := [(9, .int w30_), (0, .ref X.1.1), (1, .int a0), (2, .int a1), (3, .int v1.1), (4, .int n14), (5, .int n17), (6, .int n18), (7, .int n19), (8, .int w21_)]) hx hb dX4_touches_108 hl (by decide) rfl (fun ls hl => ?_)
            refine lv_aload_n (pc := 110) hx hb dX4_touches_110 rfl (lv_at hl 1 rfl) ?_
            refine mr_get (pc := 111) (k := 39) (v := .ref (X.1.2.1 39)) hx hb hts hown hK hW (by decide) rfl q1568 dX4_touches_111 ?_
            refine lv_iload_n (pc := 114) hx hb dX4_touches_114 rfl (lv_at hl 2 rfl) ?_
            obtain ⟨h38, hd⟩ := wt_ck_o hd
            refine mr_row (pc := 115) (k := 39) hx hb hK hW rfl h38 dX4_touches_115 ?_
            refine lv_iload_n (pc := 116) hx hb dX4_touches_116 rfl (lv_at hl 4 rfl) ?_
            refine lv_sipush (pc := 117) (v := 9999) hx hb dX4_touches_117 (by decide) ?_
            refine lv_iload (pc := 120) hx hb dX4_touches_120 (lv_at hl 5 rfl) ?_
            refine lv_iload (pc := 122) hx hb dX4_touches_122 (lv_at hl 7 rfl) ?_
            refine lv_isub (pc := 124) hx hb dX4_touches_124 ?_
            refine lv_iload (pc := 125) hx hb dX4_touches_125 (lv_at hl 8 rfl) ?_
            refine lv_iadd (pc := 127) hx hb dX4_touches_127 ?_
            refine lv_iload (pc := 128) hx hb dX4_touches_128 (lv_at hl 9 rfl) ?_
            refine lv_iadd (pc := 130) hx hb dX4_touches_130 ?_
            obtain ⟨w39, hc40, hd⟩ := wt_bd_o hd
            refine kX4_less (pc := 131) hx hb hml hown hts hK hW hS hc40 hl.1 (Nat.le_of_ble_eq_true rfl) ⟨Nat.le_of_ble_eq_true rfl, Nat.le_of_ble_eq_true rfl⟩ ⟨Nat.le_refl _, Nat.le_refl _⟩ dX4_touches_131 (fun H locs hW hS => ?_)
            obtain ⟨h41, hd⟩ := wt_ck_o hd
            obtain ⟨σ42, eσ42, hd⟩ := wt_lt_o hd
            refine mr_gst (pc := 134) (k := 39) (i := (a0.toNatClampNeg)) hx hb hK hW hJ hS (vp_lt h38) rfl h41 eσ42 dX4_touches_134 (fun H locs hW hS => ?_)
            refine lv_aload_n (pc := 135) hx hb dX4_touches_135 rfl (lv_at hl 1 rfl) ?_
            refine mr_get (pc := 136) (k := 39) (v := .ref (X.1.2.1 39)) hx hb hts hown hK hW (by decide) rfl q1568 dX4_touches_136 ?_
            refine lv_iload_n (pc := 139) hx hb dX4_touches_139 rfl (lv_at hl 3 rfl) ?_
            obtain ⟨h43, hd⟩ := wt_ck_o hd
            refine mr_row (pc := 140) (k := 39) hx hb hK hW rfl h43 dX4_touches_140 ?_
            refine lv_iload_n (pc := 141) hx hb dX4_touches_141 rfl (lv_at hl 4 rfl) ?_
            refine lv_sipush (pc := 142) (v := 9999) hx hb dX4_touches_142 (by decide) ?_
            refine lv_iload (pc := 145) hx hb dX4_touches_145 (lv_at hl 6 rfl) ?_
            refine lv_iload (pc := 147) hx hb dX4_touches_147 (lv_at hl 8 rfl) ?_
            refine lv_isub (pc := 149) hx hb dX4_touches_149 ?_
            refine lv_iload (pc := 150) hx hb dX4_touches_150 (lv_at hl 7 rfl) ?_
            refine lv_iadd (pc := 152) hx hb dX4_touches_152 ?_
            refine lv_iload (pc := 153) hx hb dX4_touches_153 (lv_at hl 0 rfl) ?_
            refine lv_iadd (pc := 155) hx hb dX4_touches_155 ?_
            obtain ⟨w44, hc45, hd⟩ := wt_bd_o hd
            refine kX4_less (pc := 156) hx hb hml hown hts hK hW hS hc45 hl.1 (Nat.le_of_ble_eq_true rfl) ⟨Nat.le_of_ble_eq_true rfl, Nat.le_of_ble_eq_true rfl⟩ ⟨Nat.le_refl _, Nat.le_refl _⟩ dX4_touches_156 (fun H locs hW hS => ?_)
            obtain ⟨h46, hd⟩ := wt_ck_o hd
            obtain ⟨σ47, eσ47, hd⟩ := wt_lt_o hd
            refine mr_gst (pc := 159) (k := 39) (i := (a1.toNatClampNeg)) hx hb hK hW hJ hS (vp_lt h43) rfl h46 eσ47 dX4_touches_159 (fun H locs hW hS => ?_)
            obtain ⟨n48, en48, hd⟩ := wt_lt_o hd
            refine lv_iinc (pc := 160) (k := 4) (v := n48) (lv' := [(3, .int n48), (9, .int w30_), (0, .ref X.1.1), (1, .int a0), (2, .int a1), (4, .int n14), (5, .int n17), (6, .int n18), (7, .int n19), (8, .int w21_)]) hx hb dX4_touches_160 hl rfl en48.symm (by decide) rfl (fun ls hl => ?_)
            refine lv_goto (pc := 163) (tgt := 2) hx hb dX4_touches_163 (by decide) ?_
            exact ih7 _ (wt_again hd hk6) _ _ _ hW hS (lv_sub hl [2, 3, 4, 0] rfl)
          have hd := hj31
          refine lv_icmp_ne (pc := 88) (tgt := 95) hx hb dX4_touches_88 (by decide) (fun c34 => ?_) (fun c34 => ?_)
          · have hd := wt_if hd c34
            refine lv_aload_n (pc := 95) hx hb dX4_touches_95 rfl (lv_at hl 1 rfl) ?_
            refine mr_get (pc := 96) (k := 12) (v := .ref (X.1.2.1 12)) hx hb hts hown hK hW (by decide) rfl q1541 dX4_touches_96 ?_
            refine lv_aload_n (pc := 99) hx hb dX4_touches_99 rfl (lv_at hl 1 rfl) ?_
            refine mr_get (pc := 100) (k := 40) (v := .ref (X.1.2.1 40)) hx hb hts hown hK hW (by decide) rfl q1569 dX4_touches_100 ?_
            refine lv_iload_n (pc := 103) hx hb dX4_touches_103 rfl (lv_at hl 2 rfl) ?_
            obtain ⟨h35, hd⟩ := wt_ck_o hd
            refine mr_ald (pc := 104) (k := 40) hx hb hK hW rfl h35 dX4_touches_104 ?_
            obtain ⟨h36, hd⟩ := wt_ck_o hd
            refine mr_row (pc := 105) (k := 12) hx hb hK hW rfl h36 dX4_touches_105 ?_
            refine lv_iload_n (pc := 106) hx hb dX4_touches_106 rfl (lv_at hl 4 rfl) ?_
            obtain ⟨h37, hd⟩ := wt_ck_o hd
            refine mr_gld (pc := 107) (k := 12) (i := (((v1.2.2.1 40 a0.toNatClampNeg)).toNatClampNeg)) hx hb hK hW (vp_lt h36) rfl h37 dX4_touches_107 ?_
            exact hX33 (v1.2.2.2 12 (((v1.2.2.1 40 a0.toNatClampNeg)).toNatClampNeg) v1.1.toNatClampNeg) (Option.some.inj hd) _ _ _ hW hS (lv_sub hl [1, 2, 3, 4, 5, 6, 7, 8, 0] rfl)
          · have hd := wt_it hd c34
            refine lv_iconst (pc := 91) (v := 0) hx hb dX4_touches_91 (by decide) ?_
            refine lv_goto (pc := 92) (tgt := 108) hx hb dX4_touches_92 (by decide) ?_
            exact hX33 (0 : Int32) (Option.some.inj hd) _ _ _ hW hS (lv_sub hl [1, 2, 3, 4, 5, 6, 7, 8, 0] rfl)
        have hd := hj22
        refine lv_icmp_ne (pc := 59) (tgt := 66) hx hb dX4_touches_59 (by decide) (fun c25 => ?_) (fun c25 => ?_)
        · have hd := wt_if hd c25
          refine lv_aload_n (pc := 66) hx hb dX4_touches_66 rfl (lv_at hl 4 rfl) ?_
          refine mr_get (pc := 67) (k := 12) (v := .ref (X.1.2.1 12)) hx hb hts hown hK hW (by decide) rfl q1541 dX4_touches_67 ?_
          refine lv_aload_n (pc := 70) hx hb dX4_touches_70 rfl (lv_at hl 4 rfl) ?_
          refine mr_get (pc := 71) (k := 40) (v := .ref (X.1.2.1 40)) hx hb hts hown hK hW (by decide) rfl q1569 dX4_touches_71 ?_
          refine lv_iload_n (pc := 74) hx hb dX4_touches_74 rfl (lv_at hl 6 rfl) ?_
          obtain ⟨h26, hd⟩ := wt_ck_o hd
          refine mr_ald (pc := 75) (k := 40) hx hb hK hW rfl h26 dX4_touches_75 ?_
          obtain ⟨h27, hd⟩ := wt_ck_o hd
          refine mr_row (pc := 76) (k := 12) hx hb hK hW rfl h27 dX4_touches_76 ?_
          refine lv_iload_n (pc := 77) hx hb dX4_touches_77 rfl (lv_at hl 7 rfl) ?_
          obtain ⟨h28, hd⟩ := wt_ck_o hd
          refine mr_gld (pc := 78) (k := 12) (i := (((v1.2.2.1 40 a1.toNatClampNeg)).toNatClampNeg)) hx hb hK hW (vp_lt h27) rfl h28 dX4_touches_78 ?_
          exact hX24 (v1.2.2.2 12 (((v1.2.2.1 40 a1.toNatClampNeg)).toNatClampNeg) v1.1.toNatClampNeg) (Option.some.inj hd) _ _ _ hW hS (lv_sub hl [4, 5, 6, 7, 3, 2, 1, 0] rfl)
        · have hd := wt_it hd c25
          refine lv_iconst (pc := 62) (v := 0) hx hb dX4_touches_62 (by decide) ?_
          refine lv_goto (pc := 63) (tgt := 79) hx hb dX4_touches_63 (by decide) ?_
          exact hX24 (0 : Int32) (Option.some.inj hd) _ _ _ hW hS (lv_sub hl [4, 5, 6, 7, 3, 2, 1, 0] rfl)
  obtain ⟨k9, hL3⟩ := wt_whC_o hL3
  exact hI10 k9 _ hL3 _ _ _ hW hS (lv_sub hl [1, 2, 3, 0] rfl)
theorem kX4_touches {p : Program} {l : Launch} {e : Env} {R : Room} {s : State} {m : MethodId} {args : Array Value} {below : List Frame} {meth : Method} {c : Code} {H : Heap} {locs : List Loc} {cells slots : Nat} {Q : State → Prop} {cc : ByteArray} {pc : Nat} {ls : Array Slot} {rest : List Value} {H0 : Heap} {nL : Nat} {X : MPar} {lo hi : Nat} {σ : MSt} {a0 : Int32} {a1 : Int32} {out_ : MSt} (hx : p.tables.exec = Jvm.exec) (hb : c.code = cc) (hml : c.maxLocals = nL) (hown : s.vm.findClass RX4 = some m.cls) (hts : ∀ w ∈ lw_all, w.before args s = true) (hK : mK X s) (hJ : mJ X lo hi) (hW : mW X σ H) (hS : va_S (mA lo hi) H0 H locs) (hd : dX4_touches σ a0 a1 = some out_) (hsz : ls.size = nL) (hrm : (rest.map fun v => v.category).sum ≤ 8) (hR : 2 ≤ R.frames ∧ 50 ≤ R.locals) (hcs : cells ≤ R.cells ∧ slots ≤ R.slots) (hdg : decode cc pc = .ok (.invokevirtual 215, 3)) (kk : ∀ (H1 : Heap) (locs1 : List Loc), mW X out_ H1 → va_S (mA lo hi) H0 H1 locs1 → W p l e R s m args below meth c H1 locs1 cells slots Q (F0 m (pc + 3) ls (rest))) : W p l e R s m args below meth c H locs cells slots Q (F0 m pc ls (.int a1 :: .int a0 :: .ref X.1.1 :: rest)) := by
  refine va_callv (va_runV (As := [.int a0, .int a1]) (rest := rest) ⟨hx, hb, hml, hown, hts⟩ (wX4_touches l hJ hd) (cwV 2 hts (lw_V q1812 q1814 qs45 q88 q1815) rfl rfl rfl (by decide +kernel) hR) (mr_pre hK hW) rfl rfl hsz rfl (lv_room hrm) hdg hcs) hS (fun _ _ h => h) (fun _ h => h) (fun u t H1 locs1 ht hvm hp hB hz hk hS1 => ?_)
  have hW1 : mW X out_ t.heap := hB.1
  rw [ht] at hW1
  exact kk H1 locs1 hW1 hS1
noncomputable def bX4_stays_1 (a0 : Int32) (a1 : Int32) (v1 : Int32 × MSt) : Option ((Int32 × MSt) ⊕ (MSt)) :=
  if (10 : Int32) ≤ v1.1 then (some (.inr v1.2)) else (wt_ck (vp_in a0 10) <| wt_ck (vp_in a0 10) <| wt_ck (vp_in v1.1 10) <| wt_ck (vp_in v1.1 10) <| wt_lt (m_sG v1.2 39 (a0.toNatClampNeg) v1.1.toNatClampNeg (((v1.2.2.2 39 (a0.toNatClampNeg) v1.1.toNatClampNeg) * a1) / (16 : Int32))) fun σ16 => wt_lt (v1.1 + (1 : Int32)) fun n17 => some (.inl (n17, σ16)))
noncomputable def dX4_stays (σ : MSt) (a0 : Int32) (a1 : Int32) : Option (MSt) :=
  wt_bd (wt_whC (bX4_stays_1 a0 a1) ((0 : Int32), σ)) fun w2 => some w2
set_option maxHeartbeats 4000000 in
theorem wX4_stays (l : Launch) {X : MPar} {lo hi : Nat} (hJ : mJ X lo hi) {σ : MSt} {a0 : Int32} {a1 : Int32} {out_ : MSt} (hd : dX4_stays σ a0 a1 = some out_) : Met l yX4_stays (ws_ yX4_stays cX4_stays 4 none) ({ frames := 0, cells := 0, slots := 0, locals := 0 }) (mP X σ [.ref X.1.1, .int a0, .int a1]) (mQv X out_ (mA lo hi)) 0 0 (mA lo hi) := by
  refine Met.ofW (cc := cX4_stays) (maxL := 4) (ret := none) (by decide) rfl ?_
  intro p_ e_ s_ m_ args_ below_ meth_ c_ s₁_ B hml hv
  obtain ⟨rfl, hW, hK⟩ := hv
  have hx := B.exec
  have hb := B.bytes
  have hr := B.returns
  have hts := atoms_spec (ws := (ws_ yX4_stays cX4_stays 4 none)) B.pre
  have hts : ∀ w ∈ lw_all, w.before _ s_ = true := fun w h => hts w (List.mem_cons_of_mem _ h)
  have hown : s_.vm.findClass RX4 = some m_.cls := findClass_of_methodNamed B.named
  have hlocks := B.notSynchronized
  have hS : va_S (mA lo hi) s_.heap s_.heap [] := va_S.rf
  have hl := lv_entry ([.ref X.1.1, .int a0, .int a1]) (n := 4) (Nat.le_of_ble_eq_true rfl)
  rw [lg_entry_eq]
  generalize (lg_sl ([.ref X.1.1, .int a0, .int a1]) ++ List.replicate (4 - (lg_sl ([.ref X.1.1, .int a0, .int a1])).length) Slot.unset).toArray = ls at hl ⊢
  have hl : lv_has ls 4 [(0, .ref X.1.1), (1, .int a0), (2, .int a1)] := hl
  unfold dX4_stays at hd
  refine lv_iconst (pc := 0) (v := 0) hx hb dX4_stays_0 (by decide) ?_
  refine lv_istore_n (pc := 1) (lv' := [(3, .int (0 : Int32)), (0, .ref X.1.1), (1, .int a0), (2, .int a1)]) hx hb dX4_stays_1 rfl hl (by decide) rfl (fun ls hl => ?_)
  obtain ⟨w2, hL3, hq4⟩ := wt_bd_o hd
  have hX5 : ∀ w2_ : MSt, w2_ = w2 → ∀ (H : Heap) (locs : List Loc) (ls : Array Slot), mW X w2_ H → va_S (mA lo hi) s_.heap H locs → lv_has ls 4 [] → W p_ l e_ (headSpec (ws_ yX4_stays cX4_stays 4 none) ({ frames := 0, cells := 0, slots := 0, locals := 0 })).room s_ m_ ([.ref X.1.1, .int a0, .int a1] : List Value).toArray below_ meth_ c_ H locs 0 0 (MQ below_ (mQv X out_ (mA lo hi)) ([.ref X.1.1, .int a0, .int a1] : List Value).toArray s_ 0 0 (mA lo hi)) (F0 m_ 35 ls []) := by
    intro w2_ hw_
    have hd := hq4
    subst hw_
    clear hL3 hq4
    intro H locs ls hW hS hl
    exact mr_vret hx hb hr hlocks (Option.some.inj hd) hW hK hS dX4_stays_35
  have hI10 : ∀ (k9 : Nat) (v1 : Int32 × MSt), wt_wh (bX4_stays_1 a0 a1) k9 v1 = some w2 → ∀ (H : Heap) (locs : List Loc) (ls : Array Slot), mW X v1.2 H → va_S (mA lo hi) s_.heap H locs → lv_has ls 4 [(0, .ref X.1.1), (1, .int a0), (2, .int a1), (3, .int v1.1)] → W p_ l e_ (headSpec (ws_ yX4_stays cX4_stays 4 none) ({ frames := 0, cells := 0, slots := 0, locals := 0 })).room s_ m_ ([.ref X.1.1, .int a0, .int a1] : List Value).toArray below_ meth_ c_ H locs 0 0 (MQ below_ (mQv X out_ (mA lo hi)) ([.ref X.1.1, .int a0, .int a1] : List Value).toArray s_ 0 0 (mA lo hi)) (F0 m_ 2 ls []) := by
    intro k9
    induction k9 with
    | zero => intro v1 hd; exact absurd hd wt_wh_z
    | succ k9 ih7 =>
      intro v1 hd
      intro H locs ls hW hS hl
      obtain ⟨r8, hd, hk6⟩ := wt_wh_o hd
      unfold bX4_stays_1 at hd
      refine lv_iload_n (pc := 2) hx hb dX4_stays_2 rfl (lv_at hl 3 rfl) ?_
      refine lv_bipush (pc := 3) (v := 10) hx hb dX4_stays_3 (by decide) ?_
      refine lv_icmp_ge (pc := 5) (tgt := 35) hx hb dX4_stays_5 (by decide) (fun c11 => ?_) (fun c11 => ?_)
      · have hd := wt_it hd c11
        exact hX5 v1.2 (wt_exit hd hk6) _ _ _ hW hS (lv_sub hl [] rfl)
      · have hd := wt_if hd c11
        refine lv_aload_n (pc := 8) hx hb dX4_stays_8 rfl (lv_at hl 0 rfl) ?_
        refine mr_get (pc := 9) (k := 39) (v := .ref (X.1.2.1 39)) hx hb hts hown hK hW (by decide) rfl q1568 dX4_stays_9 ?_
        refine lv_iload_n (pc := 12) hx hb dX4_stays_12 rfl (lv_at hl 1 rfl) ?_
        obtain ⟨h12, hd⟩ := wt_ck_o hd
        refine mr_row (pc := 13) (k := 39) hx hb hK hW rfl h12 dX4_stays_13 ?_
        refine lv_iload_n (pc := 14) hx hb dX4_stays_14 rfl (lv_at hl 3 rfl) ?_
        refine lv_aload_n (pc := 15) hx hb dX4_stays_15 rfl (lv_at hl 0 rfl) ?_
        refine mr_get (pc := 16) (k := 39) (v := .ref (X.1.2.1 39)) hx hb hts hown hK hW (by decide) rfl q1568 dX4_stays_16 ?_
        refine lv_iload_n (pc := 19) hx hb dX4_stays_19 rfl (lv_at hl 1 rfl) ?_
        obtain ⟨h13, hd⟩ := wt_ck_o hd
        refine mr_row (pc := 20) (k := 39) hx hb hK hW rfl h13 dX4_stays_20 ?_
        refine lv_iload_n (pc := 21) hx hb dX4_stays_21 rfl (lv_at hl 3 rfl) ?_
        obtain ⟨h14, hd⟩ := wt_ck_o hd
        refine mr_gld (pc := 22) (k := 39) (i := (a0.toNatClampNeg)) hx hb hK hW (vp_lt h13) rfl h14 dX4_stays_22 ?_
        refine lv_iload_n (pc := 23) hx hb dX4_stays_23 rfl (lv_at hl 2 rfl) ?_
        refine lv_imul (pc := 24) hx hb dX4_stays_24 ?_
        refine lv_bipush (pc := 25) (v := 16) hx hb dX4_stays_25 (by decide) ?_
        refine lv_idiv (pc := 27) hx hb dX4_stays_27 (by decide) ?_
        obtain ⟨h15, hd⟩ := wt_ck_o hd
        obtain ⟨σ16, eσ16, hd⟩ := wt_lt_o hd
        refine mr_gst (pc := 28) (k := 39) (i := (a0.toNatClampNeg)) hx hb hK hW hJ hS (vp_lt h12) rfl h15 eσ16 dX4_stays_28 (fun H locs hW hS => ?_)
        obtain ⟨n17, en17, hd⟩ := wt_lt_o hd
        refine lv_iinc (pc := 29) (k := 3) (v := n17) (lv' := [(3, .int n17), (0, .ref X.1.1), (1, .int a0), (2, .int a1)]) hx hb dX4_stays_29 hl rfl en17.symm (by decide) rfl (fun ls hl => ?_)
        refine lv_goto (pc := 32) (tgt := 2) hx hb dX4_stays_32 (by decide) ?_
        exact ih7 _ (wt_again hd hk6) _ _ _ hW hS (lv_sub hl [1, 2, 3, 0] rfl)
  obtain ⟨k9, hL3⟩ := wt_whC_o hL3
  exact hI10 k9 _ hL3 _ _ _ hW hS (lv_sub hl [1, 2, 3, 0] rfl)
theorem kX4_stays {p : Program} {l : Launch} {e : Env} {R : Room} {s : State} {m : MethodId} {args : Array Value} {below : List Frame} {meth : Method} {c : Code} {H : Heap} {locs : List Loc} {cells slots : Nat} {Q : State → Prop} {cc : ByteArray} {pc : Nat} {ls : Array Slot} {rest : List Value} {H0 : Heap} {nL : Nat} {X : MPar} {lo hi : Nat} {σ : MSt} {a0 : Int32} {a1 : Int32} {out_ : MSt} (hx : p.tables.exec = Jvm.exec) (hb : c.code = cc) (hml : c.maxLocals = nL) (hown : s.vm.findClass RX4 = some m.cls) (hts : ∀ w ∈ lw_all, w.before args s = true) (hK : mK X s) (hJ : mJ X lo hi) (hW : mW X σ H) (hS : va_S (mA lo hi) H0 H locs) (hd : dX4_stays σ a0 a1 = some out_) (hsz : ls.size = nL) (hrm : (rest.map fun v => v.category).sum ≤ 8) (hR : 1 ≤ R.frames ∧ 23 ≤ R.locals) (hcs : cells ≤ R.cells ∧ slots ≤ R.slots) (hdg : decode cc pc = .ok (.invokevirtual 218, 3)) (kk : ∀ (H1 : Heap) (locs1 : List Loc), mW X out_ H1 → va_S (mA lo hi) H0 H1 locs1 → W p l e R s m args below meth c H1 locs1 cells slots Q (F0 m (pc + 3) ls (rest))) : W p l e R s m args below meth c H locs cells slots Q (F0 m pc ls (.int a1 :: .int a0 :: .ref X.1.1 :: rest)) := by
  refine va_callv (va_runV (As := [.int a0, .int a1]) (rest := rest) ⟨hx, hb, hml, hown, hts⟩ (wX4_stays l hJ hd) (cwV 2 hts (lw_V q1816 q1818 qs46 q88 q1819) rfl rfl rfl (by decide +kernel) hR) (mr_pre hK hW) rfl rfl hsz rfl (lv_room hrm) hdg hcs) hS (fun _ _ h => h) (fun _ h => h) (fun u t H1 locs1 ht hvm hp hB hz hk hS1 => ?_)
  have hW1 : mW X out_ t.heap := hB.1
  rw [ht] at hW1
  exact kk H1 locs1 hW1 hS1
noncomputable def dX4_does (σ : MSt) (a0 : Nat) : Option (MSt) :=
  wt_ck (vp_in (1 : Int32) 4) <| wt_lt ((σ.2.2 26 a0 (1 : Int32).toNatClampNeg)) fun n2 => wt_ck (vp_in (0 : Int32) 4) <| wt_bd (if (σ.2.2 26 a0 (0 : Int32).toNatClampNeg) = 0 then (wt_ck (vp_in (2 : Int32) 4) <| wt_ck (vp_in n2 10) <| wt_lt (m_sA σ 40 n2.toNatClampNeg (σ.2.2 26 a0 (2 : Int32).toNatClampNeg)) fun σ11 => some (σ11)) else (some (σ))) fun w4 => wt_ck (vp_in (0 : Int32) 4) <| wt_bd (if (w4.2.2 26 a0 (0 : Int32).toNatClampNeg) = (1 : Int32) then (wt_ck (vp_in n2 10) <| wt_lt (m_sA w4 40 n2.toNatClampNeg (-1 : Int32)) fun σ19 => some (σ19)) else (some (w4))) fun w13 => wt_ck (vp_in (0 : Int32) 4) <| wt_bd (if (w13.2.2 26 a0 (0 : Int32).toNatClampNeg) = (2 : Int32) then (wt_ck (vp_in (2 : Int32) 4) <| wt_bd (dX4_touches w13 n2 (w13.2.2 26 a0 (2 : Int32).toNatClampNeg)) fun w27 => some (w27)) else (some (w13))) fun w21 => wt_ck (vp_in (0 : Int32) 4) <| wt_bd (if (w21.2.2 26 a0 (0 : Int32).toNatClampNeg) = (3 : Int32) then (wt_bd (dX4_stays w21 n2 (w21.1 9)) fun w35 => some (w35)) else (some (w21))) fun w30 => wt_ck (vp_in (0 : Int32) 4) <| if (w30.2.2 26 a0 (0 : Int32).toNatClampNeg) = (4 : Int32) then (wt_ck (vp_in (2 : Int32) 4) <| wt_bd (dX4_stays w30 n2 (w30.2.2 26 a0 (2 : Int32).toNatClampNeg)) fun w40 => some w40) else (some w30)
set_option maxHeartbeats 4000000 in
theorem wX4_does (l : Launch) {X : MPar} {lo hi : Nat} (hJ : mJ X lo hi) {σ : MSt} {a0 : Nat} {out_ : MSt} (ha0_ : a0 < 80) (hd : dX4_does σ a0 = some out_) : Met l yX4_does (ws_ yX4_does cX4_does 3 none) ({ frames := 2, cells := 0, slots := 0, locals := 50 }) (mP X σ [.ref X.1.1, .ref (X.1.2.2 26 a0)]) (mQv X out_ (mA lo hi)) 0 0 (mA lo hi) := by
  refine Met.ofW (cc := cX4_does) (maxL := 3) (ret := none) (by decide) rfl ?_
  intro p_ e_ s_ m_ args_ below_ meth_ c_ s₁_ B hml hv
  obtain ⟨rfl, hW, hK⟩ := hv
  have hx := B.exec
  have hb := B.bytes
  have hr := B.returns
  have hts := atoms_spec (ws := (ws_ yX4_does cX4_does 3 none)) B.pre
  have hts : ∀ w ∈ lw_all, w.before _ s_ = true := fun w h => hts w (List.mem_cons_of_mem _ h)
  have hown : s_.vm.findClass RX4 = some m_.cls := findClass_of_methodNamed B.named
  have hlocks := B.notSynchronized
  have hS : va_S (mA lo hi) s_.heap s_.heap [] := va_S.rf
  have hl := lv_entry ([.ref X.1.1, .ref (X.1.2.2 26 a0)]) (n := 3) (Nat.le_of_ble_eq_true rfl)
  rw [lg_entry_eq]
  generalize (lg_sl ([.ref X.1.1, .ref (X.1.2.2 26 a0)]) ++ List.replicate (3 - (lg_sl ([.ref X.1.1, .ref (X.1.2.2 26 a0)])).length) Slot.unset).toArray = ls at hl ⊢
  have hl : lv_has ls 3 [(0, .ref X.1.1), (1, .ref (X.1.2.2 26 a0))] := hl
  unfold dX4_does at hd
  refine lv_aload_n (pc := 0) hx hb dX4_does_0 rfl (lv_at hl 1 rfl) ?_
  refine lv_iconst (pc := 1) (v := 1) hx hb dX4_does_1 (by decide) ?_
  obtain ⟨h1, hd⟩ := wt_ck_o hd
  refine mr_gld (pc := 2) (k := 26) (i := a0) hx hb hK hW ha0_ rfl h1 dX4_does_2 ?_
  obtain ⟨n2, en2, hd⟩ := wt_lt_o hd
  refine lv_tope en2 ?_
  refine lv_istore_n (pc := 3) (lv' := [(2, .int n2), (0, .ref X.1.1), (1, .ref (X.1.2.2 26 a0))]) hx hb dX4_does_3 rfl hl (by decide) rfl (fun ls hl => ?_)
  refine lv_aload_n (pc := 4) hx hb dX4_does_4 rfl (lv_at hl 2 rfl) ?_
  refine lv_iconst (pc := 5) (v := 0) hx hb dX4_does_5 (by decide) ?_
  obtain ⟨h3, hd⟩ := wt_ck_o hd
  refine mr_gld (pc := 6) (k := 26) (i := a0) hx hb hK hW ha0_ rfl h3 dX4_does_6 ?_
  obtain ⟨w4, hj5, hq6⟩ := wt_bd_o hd
  have hX7 : ∀ w4_ : MSt, w4_ = w4 → ∀ (H : Heap) (locs : List Loc) (ls : Array Slot), mW X w4_ H → va_S (mA lo hi) s_.heap H locs → lv_has ls 3 [(0, .ref X.1.1), (1, .ref (X.1.2.2 26 a0)), (2, .int n2)] → W p_ l e_ (headSpec (ws_ yX4_does cX4_does 3 none) ({ frames := 2, cells := 0, slots := 0, locals := 50 })).room s_ m_ ([.ref X.1.1, .ref (X.1.2.2 26 a0)] : List Value).toArray below_ meth_ c_ H locs 0 0 (MQ below_ (mQv X out_ (mA lo hi)) ([.ref X.1.1, .ref (X.1.2.2 26 a0)] : List Value).toArray s_ 0 0 (mA lo hi)) (F0 m_ 19 ls []) := by
    intro w4_ hw_
    have hd := hq6
    subst hw_
    clear hj5 hq6
    intro H locs ls hW hS hl
    refine lv_aload_n (pc := 19) hx hb dX4_does_19 rfl (lv_at hl 1 rfl) ?_
    refine lv_iconst (pc := 20) (v := 0) hx hb dX4_does_20 (by decide) ?_
    obtain ⟨h12, hd⟩ := wt_ck_o hd
    refine mr_gld (pc := 21) (k := 26) (i := a0) hx hb hK hW ha0_ rfl h12 dX4_does_21 ?_
    refine lv_iconst (pc := 22) (v := 1) hx hb dX4_does_22 (by decide) ?_
    obtain ⟨w13, hj14, hq15⟩ := wt_bd_o hd
    have hX16 : ∀ w13_ : MSt, w13_ = w13 → ∀ (H : Heap) (locs : List Loc) (ls : Array Slot), mW X w13_ H → va_S (mA lo hi) s_.heap H locs → lv_has ls 3 [(0, .ref X.1.1), (1, .ref (X.1.2.2 26 a0)), (2, .int n2)] → W p_ l e_ (headSpec (ws_ yX4_does cX4_does 3 none) ({ frames := 2, cells := 0, slots := 0, locals := 50 })).room s_ m_ ([.ref X.1.1, .ref (X.1.2.2 26 a0)] : List Value).toArray below_ meth_ c_ H locs 0 0 (MQ below_ (mQv X out_ (mA lo hi)) ([.ref X.1.1, .ref (X.1.2.2 26 a0)] : List Value).toArray s_ 0 0 (mA lo hi)) (F0 m_ 33 ls []) := by
      intro w13_ hw_
      have hd := hq15
      subst hw_
      clear hj14 hq15
      intro H locs ls hW hS hl
      refine lv_aload_n (pc := 33) hx hb dX4_does_33 rfl (lv_at hl 1 rfl) ?_
      refine lv_iconst (pc := 34) (v := 0) hx hb dX4_does_34 (by decide) ?_
      obtain ⟨h20, hd⟩ := wt_ck_o hd
      refine mr_gld (pc := 35) (k := 26) (i := a0) hx hb hK hW ha0_ rfl h20 dX4_does_35 ?_
      refine lv_iconst (pc := 36) (v := 2) hx hb dX4_does_36 (by decide) ?_
      obtain ⟨w21, hj22, hq23⟩ := wt_bd_o hd
      have hX24 : ∀ w21_ : MSt, w21_ = w21 → ∀ (H : Heap) (locs : List Loc) (ls : Array Slot), mW X w21_ H → va_S (mA lo hi) s_.heap H locs → lv_has ls 3 [(0, .ref X.1.1), (1, .ref (X.1.2.2 26 a0)), (2, .int n2)] → W p_ l e_ (headSpec (ws_ yX4_does cX4_does 3 none) ({ frames := 2, cells := 0, slots := 0, locals := 50 })).room s_ m_ ([.ref X.1.1, .ref (X.1.2.2 26 a0)] : List Value).toArray below_ meth_ c_ H locs 0 0 (MQ below_ (mQv X out_ (mA lo hi)) ([.ref X.1.1, .ref (X.1.2.2 26 a0)] : List Value).toArray s_ 0 0 (mA lo hi)) (F0 m_ 48 ls []) := by
        intro w21_ hw_
        have hd := hq23
        subst hw_
        clear hj22 hq23
        intro H locs ls hW hS hl
        refine lv_aload_n (pc := 48) hx hb dX4_does_48 rfl (lv_at hl 1 rfl) ?_
        refine lv_iconst (pc := 49) (v := 0) hx hb dX4_does_49 (by decide) ?_
        obtain ⟨h29, hd⟩ := wt_ck_o hd
        refine mr_gld (pc := 50) (k := 26) (i := a0) hx hb hK hW ha0_ rfl h29 dX4_does_50 ?_
        refine lv_iconst (pc := 51) (v := 3) hx hb dX4_does_51 (by decide) ?_
        obtain ⟨w30, hj31, hq32⟩ := wt_bd_o hd
        have hX33 : ∀ w30_ : MSt, w30_ = w30 → ∀ (H : Heap) (locs : List Loc) (ls : Array Slot), mW X w30_ H → va_S (mA lo hi) s_.heap H locs → lv_has ls 3 [(0, .ref X.1.1), (1, .ref (X.1.2.2 26 a0)), (2, .int n2)] → W p_ l e_ (headSpec (ws_ yX4_does cX4_does 3 none) ({ frames := 2, cells := 0, slots := 0, locals := 50 })).room s_ m_ ([.ref X.1.1, .ref (X.1.2.2 26 a0)] : List Value).toArray below_ meth_ c_ H locs 0 0 (MQ below_ (mQv X out_ (mA lo hi)) ([.ref X.1.1, .ref (X.1.2.2 26 a0)] : List Value).toArray s_ 0 0 (mA lo hi)) (F0 m_ 64 ls []) := by
          intro w30_ hw_
          have hd := hq32
          subst hw_
          clear hj31 hq32
          intro H locs ls hW hS hl
          refine lv_aload_n (pc := 64) hx hb dX4_does_64 rfl (lv_at hl 1 rfl) ?_
          refine lv_iconst (pc := 65) (v := 0) hx hb dX4_does_65 (by decide) ?_
          obtain ⟨h37, hd⟩ := wt_ck_o hd
          refine mr_gld (pc := 66) (k := 26) (i := a0) hx hb hK hW ha0_ rfl h37 dX4_does_66 ?_
          refine lv_iconst (pc := 67) (v := 4) hx hb dX4_does_67 (by decide) ?_
          refine lv_icmp_ne (pc := 68) (tgt := 79) hx hb dX4_does_68 (by decide) (fun c38 => ?_) (fun c38 => ?_)
          · have hd := wt_if hd c38
            exact mr_vret hx hb hr hlocks (Option.some.inj hd) hW hK hS dX4_does_79
          · have hd := wt_it hd c38
            refine lv_aload_n (pc := 71) hx hb dX4_does_71 rfl (lv_at hl 0 rfl) ?_
            refine lv_iload_n (pc := 72) hx hb dX4_does_72 rfl (lv_at hl 2 rfl) ?_
            refine lv_aload_n (pc := 73) hx hb dX4_does_73 rfl (lv_at hl 1 rfl) ?_
            refine lv_iconst (pc := 74) (v := 2) hx hb dX4_does_74 (by decide) ?_
            obtain ⟨h39, hd⟩ := wt_ck_o hd
            refine mr_gld (pc := 75) (k := 26) (i := a0) hx hb hK hW ha0_ rfl h39 dX4_does_75 ?_
            obtain ⟨w40, hc41, hd⟩ := wt_bd_o hd
            refine kX4_stays (pc := 76) hx hb hml hown hts hK hJ hW hS hc41 hl.1 (Nat.le_of_ble_eq_true rfl) ⟨Nat.le_of_ble_eq_true rfl, Nat.le_of_ble_eq_true rfl⟩ ⟨Nat.le_refl _, Nat.le_refl _⟩ dX4_does_76 (fun H locs hW hS => ?_)
            exact mr_vret hx hb hr hlocks (Option.some.inj hd) hW hK hS dX4_does_79
        have hd := hj31
        refine lv_icmp_ne (pc := 52) (tgt := 64) hx hb dX4_does_52 (by decide) (fun c34 => ?_) (fun c34 => ?_)
        · have hd := wt_if hd c34
          exact hX33 w21_ (Option.some.inj hd) _ _ _ hW hS hl
        · have hd := wt_it hd c34
          refine lv_aload_n (pc := 55) hx hb dX4_does_55 rfl (lv_at hl 0 rfl) ?_
          refine lv_iload_n (pc := 56) hx hb dX4_does_56 rfl (lv_at hl 2 rfl) ?_
          refine lv_aload_n (pc := 57) hx hb dX4_does_57 rfl (lv_at hl 0 rfl) ?_
          refine mr_get (pc := 58) (k := 9) (v := .int ((w21_.1 9))) hx hb hts hown hK hW (by decide) rfl q1538 dX4_does_58 ?_
          obtain ⟨w35, hc36, hd⟩ := wt_bd_o hd
          refine kX4_stays (pc := 61) hx hb hml hown hts hK hJ hW hS hc36 hl.1 (Nat.le_of_ble_eq_true rfl) ⟨Nat.le_of_ble_eq_true rfl, Nat.le_of_ble_eq_true rfl⟩ ⟨Nat.le_refl _, Nat.le_refl _⟩ dX4_does_61 (fun H locs hW hS => ?_)
          exact hX33 w35 (Option.some.inj hd) _ _ _ hW hS hl
      have hd := hj22
      refine lv_icmp_ne (pc := 37) (tgt := 48) hx hb dX4_does_37 (by decide) (fun c25 => ?_) (fun c25 => ?_)
      · have hd := wt_if hd c25
        exact hX24 w13_ (Option.some.inj hd) _ _ _ hW hS hl
      · have hd := wt_it hd c25
        refine lv_aload_n (pc := 40) hx hb dX4_does_40 rfl (lv_at hl 0 rfl) ?_
        refine lv_iload_n (pc := 41) hx hb dX4_does_41 rfl (lv_at hl 2 rfl) ?_
        refine lv_aload_n (pc := 42) hx hb dX4_does_42 rfl (lv_at hl 1 rfl) ?_
        refine lv_iconst (pc := 43) (v := 2) hx hb dX4_does_43 (by decide) ?_
        obtain ⟨h26, hd⟩ := wt_ck_o hd
        refine mr_gld (pc := 44) (k := 26) (i := a0) hx hb hK hW ha0_ rfl h26 dX4_does_44 ?_
        obtain ⟨w27, hc28, hd⟩ := wt_bd_o hd
        refine kX4_touches (pc := 45) hx hb hml hown hts hK hJ hW hS hc28 hl.1 (Nat.le_of_ble_eq_true rfl) ⟨Nat.le_of_ble_eq_true rfl, Nat.le_of_ble_eq_true rfl⟩ ⟨Nat.le_refl _, Nat.le_refl _⟩ dX4_does_45 (fun H locs hW hS => ?_)
        exact hX24 w27 (Option.some.inj hd) _ _ _ hW hS hl
    have hd := hj14
    refine lv_icmp_ne (pc := 23) (tgt := 33) hx hb dX4_does_23 (by decide) (fun c17 => ?_) (fun c17 => ?_)
    · have hd := wt_if hd c17
      exact hX16 w4_ (Option.some.inj hd) _ _ _ hW hS hl
    · have hd := wt_it hd c17
      refine lv_aload_n (pc := 26) hx hb dX4_does_26 rfl (lv_at hl 0 rfl) ?_
      refine mr_get (pc := 27) (k := 40) (v := .ref (X.1.2.1 40)) hx hb hts hown hK hW (by decide) rfl q1569 dX4_does_27 ?_
      refine lv_iload_n (pc := 30) hx hb dX4_does_30 rfl (lv_at hl 2 rfl) ?_
      refine lv_iconst (pc := 31) (v := -1) hx hb dX4_does_31 (by decide) ?_
      obtain ⟨h18, hd⟩ := wt_ck_o hd
      obtain ⟨σ19, eσ19, hd⟩ := wt_lt_o hd
      refine mr_ast (pc := 32) (k := 40) hx hb hK hW hJ hS rfl h18 eσ19 dX4_does_32 (fun H locs hW hS => ?_)
      exact hX16 σ19 (Option.some.inj hd) _ _ _ hW hS hl
  have hd := hj5
  refine lv_if_ne (pc := 7) (tgt := 19) hx hb dX4_does_7 (by decide) (fun c8 => ?_) (fun c8 => ?_)
  · have hd := wt_if hd c8
    exact hX7 σ (Option.some.inj hd) _ _ _ hW hS (lv_sub hl [1, 2, 0] rfl)
  · have hd := wt_it hd c8
    refine lv_aload_n (pc := 10) hx hb dX4_does_10 rfl (lv_at hl 1 rfl) ?_
    refine mr_get (pc := 11) (k := 40) (v := .ref (X.1.2.1 40)) hx hb hts hown hK hW (by decide) rfl q1569 dX4_does_11 ?_
    refine lv_iload_n (pc := 14) hx hb dX4_does_14 rfl (lv_at hl 0 rfl) ?_
    refine lv_aload_n (pc := 15) hx hb dX4_does_15 rfl (lv_at hl 2 rfl) ?_
    refine lv_iconst (pc := 16) (v := 2) hx hb dX4_does_16 (by decide) ?_
    obtain ⟨h9, hd⟩ := wt_ck_o hd
    refine mr_gld (pc := 17) (k := 26) (i := a0) hx hb hK hW ha0_ rfl h9 dX4_does_17 ?_
    obtain ⟨h10, hd⟩ := wt_ck_o hd
    obtain ⟨σ11, eσ11, hd⟩ := wt_lt_o hd
    refine mr_ast (pc := 18) (k := 40) hx hb hK hW hJ hS rfl h10 eσ11 dX4_does_18 (fun H locs hW hS => ?_)
    exact hX7 σ11 (Option.some.inj hd) _ _ _ hW hS (lv_sub hl [1, 2, 0] rfl)
theorem kX4_does {p : Program} {l : Launch} {e : Env} {R : Room} {s : State} {m : MethodId} {args : Array Value} {below : List Frame} {meth : Method} {c : Code} {H : Heap} {locs : List Loc} {cells slots : Nat} {Q : State → Prop} {cc : ByteArray} {pc : Nat} {ls : Array Slot} {rest : List Value} {H0 : Heap} {nL : Nat} {X : MPar} {lo hi : Nat} {σ : MSt} {a0 : Nat} {out_ : MSt} (hx : p.tables.exec = Jvm.exec) (hb : c.code = cc) (hml : c.maxLocals = nL) (hown : s.vm.findClass RX4 = some m.cls) (hts : ∀ w ∈ lw_all, w.before args s = true) (hK : mK X s) (hJ : mJ X lo hi) (hW : mW X σ H) (hS : va_S (mA lo hi) H0 H locs) (hd : dX4_does σ a0 = some out_) (ha0_ : a0 < 80) (hsz : ls.size = nL) (hrm : (rest.map fun v => v.category).sum ≤ 8) (hR : 3 ≤ R.frames ∧ 72 ≤ R.locals) (hcs : cells ≤ R.cells ∧ slots ≤ R.slots) (hdg : decode cc pc = .ok (.invokevirtual 225, 3)) (kk : ∀ (H1 : Heap) (locs1 : List Loc), mW X out_ H1 → va_S (mA lo hi) H0 H1 locs1 → W p l e R s m args below meth c H1 locs1 cells slots Q (F0 m (pc + 3) ls (rest))) : W p l e R s m args below meth c H locs cells slots Q (F0 m pc ls (.ref (X.1.2.2 26 a0) :: .ref X.1.1 :: rest)) := by
  refine va_callv (va_runV (As := [.ref (X.1.2.2 26 a0)]) (rest := rest) ⟨hx, hb, hml, hown, hts⟩ (wX4_does l hJ ha0_ hd) (cwV 1 hts (lw_V q1808 q1810 qs44 q88 q1811) rfl rfl rfl (by decide +kernel) hR) (mr_pre hK hW) rfl rfl hsz rfl (lv_room hrm) hdg hcs) hS (fun _ _ h => h) (fun _ h => h) (fun u t H1 locs1 ht hvm hp hB hz hk hS1 => ?_)
  have hW1 : mW X out_ t.heap := hB.1
  rw [ht] at hW1
  exact kk H1 locs1 hW1 hS1
noncomputable def bX4_runs_2 (v1 : Int32 × MSt) (v14 : Int32 × MSt) : Option ((Int32 × MSt) ⊕ (MSt)) :=
  if (10 : Int32) ≤ v14.1 then (some (.inr v14.2)) else (wt_ck (vp_in v1.1 10) <| wt_ck (vp_in v14.1 10) <| wt_lt (m_sG v14.2 39 (v1.1.toNatClampNeg) v14.1.toNatClampNeg (0 : Int32)) fun σ27 => wt_lt (v14.1 + (1 : Int32)) fun n28 => some (.inl (n28, σ27)))
noncomputable def bX4_runs_1  (v1 : Int32 × MSt) : Option ((Int32 × MSt) ⊕ (MSt)) :=
  if (10 : Int32) ≤ v1.1 then (some (.inr v1.2)) else (wt_ck (vp_in v1.1 10) <| wt_lt (m_sA v1.2 40 v1.1.toNatClampNeg (-1 : Int32)) fun σ13 => wt_bd (wt_whC (bX4_runs_2 v1) ((0 : Int32), σ13)) fun w15 => wt_lt (v1.1 + (1 : Int32)) fun n29 => some (.inl (n29, w15)))
noncomputable def bX4_runs_5 (v41 : Int32 × MSt) (v53 : Int32 × MSt) : Option ((Int32 × MSt) ⊕ (MSt)) :=
  if (10 : Int32) ≤ v53.1 then (some (.inr v53.2)) else (wt_ck (vp_in v41.1 10) <| wt_ck (vp_in v41.1 10) <| wt_ck (vp_in v53.1 10) <| wt_ck (vp_in v53.1 10) <| wt_ck (vp_in v53.1 10) <| wt_lt (m_sG v53.2 39 (v41.1.toNatClampNeg) v53.1.toNatClampNeg (((v53.2.2.2 39 (v41.1.toNatClampNeg) v53.1.toNatClampNeg) * (v53.2.2.1 13 v53.1.toNatClampNeg)) / (16 : Int32))) fun σ69 => wt_lt (v53.1 + (1 : Int32)) fun n70 => some (.inl (n70, σ69)))
noncomputable def bX4_runs_4 (v30 : Int32 × Int32 × MSt) (v41 : Int32 × MSt) : Option ((Int32 × MSt) ⊕ (MSt)) :=
  if (10 : Int32) ≤ v41.1 then (some (.inr v41.2)) else (if v30.2.1 ≤ 0 then (some (.inr v41.2)) else (wt_bd (wt_whC (bX4_runs_5 v41) ((0 : Int32), v41.2)) fun w54 => wt_lt (v41.1 + (1 : Int32)) fun n71 => some (.inl (n71, w54))))
noncomputable def bX4_runs_6 (a0 : Int32) (v30 : Int32 × Int32 × MSt) (v72 : Int32 × MSt) : Option ((Int32 × MSt) ⊕ (Int32 × MSt)) :=
  wt_ck (vp_in a0 4) <| if (v72.2.2.1 25 a0.toNatClampNeg) ≤ v72.1 then (some (.inr (v72.1, v72.2))) else (wt_ck (vp_in (((20 : Int32) * a0) + v72.1) 80) <| wt_ck (vp_in (3 : Int32) 4) <| if (v72.2.2.2 26 (((((20 : Int32) * a0) + v72.1)).toNatClampNeg) (3 : Int32).toNatClampNeg) = v30.2.1 then (wt_ck (vp_in (((20 : Int32) * a0) + v72.1) 80) <| wt_bd (dX4_comes v72.2 v72.1 (((((20 : Int32) * a0) + v72.1)).toNatClampNeg)) fun w88 => if w88 = 0 then (wt_lt (v72.1 + (1 : Int32)) fun n91 => some (.inl (n91, v72.2))) else (wt_ck (vp_in (((20 : Int32) * a0) + v72.1) 80) <| wt_bd (dX4_does v72.2 (((((20 : Int32) * a0) + v72.1)).toNatClampNeg)) fun w93 => wt_lt (v72.1 + (1 : Int32)) fun n95 => some (.inl (n95, w93)))) else (some (.inr (v72.1, v72.2))))
noncomputable def bX4_runs_3 (a0 : Int32) (a1 : Int32) (v30 : Int32 × Int32 × MSt) : Option ((Int32 × Int32 × MSt) ⊕ (MSt)) :=
  if a1 < v30.2.1 then (some (.inr v30.2.2)) else (wt_bd (wt_whC (bX4_runs_4 v30) ((0 : Int32), v30.2.2)) fun w42 => wt_bd (wt_whC (bX4_runs_6 a0 v30) (v30.1, w42)) fun w73 => if (w73.2.1 42) = (-1 : Int32) then (wt_lt (v30.2.1 + (1 : Int32)) fun n97 => some (.inl (w73.1, n97, w73.2))) else (if (w73.2.1 44) = v30.2.1 then (wt_bd (dX4_touches w73.2 (w73.2.1 42) (w73.2.1 43)) fun w100 => wt_lt (v30.2.1 + (1 : Int32)) fun n102 => some (.inl (w73.1, n102, w100))) else (wt_lt (v30.2.1 + (1 : Int32)) fun n99 => some (.inl (w73.1, n99, w73.2)))))
noncomputable def dX4_runs (σ : MSt) (a0 : Int32) (a1 : Int32) : Option (MSt) :=
  wt_bd (wt_whC (bX4_runs_1) ((0 : Int32), σ)) fun w2 => wt_bd (wt_whC (bX4_runs_3 a0 a1) ((0 : Int32), (0 : Int32), w2)) fun w31 => some w31
set_option maxHeartbeats 4000000 in
theorem wX4_runs (l : Launch) {X : MPar} {lo hi : Nat} (hJ : mJ X lo hi) {σ : MSt} {a0 : Int32} {a1 : Int32} {out_ : MSt} (hd : dX4_runs σ a0 a1 = some out_) : Met l yX4_runs (ws_ yX4_runs cX4_runs 7 none) ({ frames := 3, cells := 0, slots := 0, locals := 72 }) (mP X σ [.ref X.1.1, .int a0, .int a1]) (mQv X out_ (mA lo hi)) 0 0 (mA lo hi) := by
  refine Met.ofW (cc := cX4_runs) (maxL := 7) (ret := none) (by decide) rfl ?_
  intro p_ e_ s_ m_ args_ below_ meth_ c_ s₁_ B hml hv
  obtain ⟨rfl, hW, hK⟩ := hv
  have hx := B.exec
  have hb := B.bytes
  have hr := B.returns
  have hts := atoms_spec (ws := (ws_ yX4_runs cX4_runs 7 none)) B.pre
  have hts : ∀ w ∈ lw_all, w.before _ s_ = true := fun w h => hts w (List.mem_cons_of_mem _ h)
  have hown : s_.vm.findClass RX4 = some m_.cls := findClass_of_methodNamed B.named
  have hlocks := B.notSynchronized
  have hS : va_S (mA lo hi) s_.heap s_.heap [] := va_S.rf
  have hl := lv_entry ([.ref X.1.1, .int a0, .int a1]) (n := 7) (Nat.le_of_ble_eq_true rfl)
  rw [lg_entry_eq]
  generalize (lg_sl ([.ref X.1.1, .int a0, .int a1]) ++ List.replicate (7 - (lg_sl ([.ref X.1.1, .int a0, .int a1])).length) Slot.unset).toArray = ls at hl ⊢
  have hl : lv_has ls 7 [(0, .ref X.1.1), (1, .int a0), (2, .int a1)] := hl
  unfold dX4_runs at hd
  refine lv_iconst (pc := 0) (v := 0) hx hb dX4_runs_0 (by decide) ?_
  refine lv_istore_n (pc := 1) (lv' := [(3, .int (0 : Int32)), (0, .ref X.1.1), (1, .int a0), (2, .int a1)]) hx hb dX4_runs_1 rfl hl (by decide) rfl (fun ls hl => ?_)
  obtain ⟨w2, hL3, hq4⟩ := wt_bd_o hd
  have hX5 : ∀ w2_ : MSt, w2_ = w2 → ∀ (H : Heap) (locs : List Loc) (ls : Array Slot), mW X w2_ H → va_S (mA lo hi) s_.heap H locs → lv_has ls 7 [(0, .ref X.1.1), (1, .int a0), (2, .int a1)] → W p_ l e_ (headSpec (ws_ yX4_runs cX4_runs 7 none) ({ frames := 3, cells := 0, slots := 0, locals := 72 })).room s_ m_ ([.ref X.1.1, .int a0, .int a1] : List Value).toArray below_ meth_ c_ H locs 0 0 (MQ below_ (mQv X out_ (mA lo hi)) ([.ref X.1.1, .int a0, .int a1] : List Value).toArray s_ 0 0 (mA lo hi)) (F0 m_ 47 ls []) := by
    intro w2_ hw_
    have hd := hq4
    subst hw_
    clear hL3 hq4
    intro H locs ls hW hS hl
    refine lv_iconst (pc := 47) (v := 0) hx hb dX4_runs_47 (by decide) ?_
    refine lv_istore_n (pc := 48) (lv' := [(3, .int (0 : Int32)), (0, .ref X.1.1), (1, .int a0), (2, .int a1)]) hx hb dX4_runs_48 rfl hl (by decide) rfl (fun ls hl => ?_)
    refine lv_iconst (pc := 49) (v := 0) hx hb dX4_runs_49 (by decide) ?_
    refine lv_istore (pc := 50) (lv' := [(4, .int (0 : Int32)), (3, .int (0 : Int32)), (0, .ref X.1.1), (1, .int a0), (2, .int a1)]) hx hb dX4_runs_50 hl (by decide) rfl (fun ls hl => ?_)
    obtain ⟨w31, hL32, hq33⟩ := wt_bd_o hd
    have hX34 : ∀ w31_ : MSt, w31_ = w31 → ∀ (H : Heap) (locs : List Loc) (ls : Array Slot), mW X w31_ H → va_S (mA lo hi) s_.heap H locs → lv_has ls 7 [] → W p_ l e_ (headSpec (ws_ yX4_runs cX4_runs 7 none) ({ frames := 3, cells := 0, slots := 0, locals := 72 })).room s_ m_ ([.ref X.1.1, .int a0, .int a1] : List Value).toArray below_ meth_ c_ H locs 0 0 (MQ below_ (mQv X out_ (mA lo hi)) ([.ref X.1.1, .int a0, .int a1] : List Value).toArray s_ 0 0 (mA lo hi)) (F0 m_ 229 ls []) := by
      intro w31_ hw_
      have hd := hq33
      subst hw_
      clear hL32 hq33
      intro H locs ls hW hS hl
      exact mr_vret hx hb hr hlocks (Option.some.inj hd) hW hK hS dX4_runs_229
    have hI39 : ∀ (k38 : Nat) (v30 : Int32 × Int32 × MSt), wt_wh (bX4_runs_3 a0 a1) k38 v30 = some w31 → ∀ (H : Heap) (locs : List Loc) (ls : Array Slot), mW X v30.2.2 H → va_S (mA lo hi) s_.heap H locs → lv_has ls 7 [(0, .ref X.1.1), (1, .int a0), (2, .int a1), (3, .int v30.1), (4, .int v30.2.1)] → W p_ l e_ (headSpec (ws_ yX4_runs cX4_runs 7 none) ({ frames := 3, cells := 0, slots := 0, locals := 72 })).room s_ m_ ([.ref X.1.1, .int a0, .int a1] : List Value).toArray below_ meth_ c_ H locs 0 0 (MQ below_ (mQv X out_ (mA lo hi)) ([.ref X.1.1, .int a0, .int a1] : List Value).toArray s_ 0 0 (mA lo hi)) (F0 m_ 52 ls []) := by
      intro k38
      induction k38 with
      | zero => intro v30 hd; exact absurd hd wt_wh_z
      | succ k38 ih36 =>
        intro v30 hd
        intro H locs ls hW hS hl
        obtain ⟨r37, hd, hk35⟩ := wt_wh_o hd
        unfold bX4_runs_3 at hd
        refine lv_iload (pc := 52) hx hb dX4_runs_52 (lv_at hl 4 rfl) ?_
        refine lv_iload_n (pc := 54) hx hb dX4_runs_54 rfl (lv_at hl 2 rfl) ?_
        refine lv_icmp_gt (pc := 55) (tgt := 229) hx hb dX4_runs_55 (by decide) (fun c40 => ?_) (fun c40 => ?_)
        · have hd := wt_it hd c40
          exact hX34 v30.2.2 (wt_exit hd hk35) _ _ _ hW hS (lv_sub hl [] rfl)
        · have hd := wt_if hd c40
          refine lv_iconst (pc := 58) (v := 0) hx hb dX4_runs_58 (by decide) ?_
          refine lv_istore (pc := 59) (lv' := [(5, .int (0 : Int32)), (0, .ref X.1.1), (1, .int a0), (2, .int a1), (3, .int v30.1), (4, .int v30.2.1)]) hx hb dX4_runs_59 hl (by decide) rfl (fun ls hl => ?_)
          obtain ⟨w42, hL43, hq44⟩ := wt_bd_o hd
          have hX45 : ∀ w42_ : MSt, w42_ = w42 → ∀ (H : Heap) (locs : List Loc) (ls : Array Slot), mW X w42_ H → va_S (mA lo hi) s_.heap H locs → lv_has ls 7 [(0, .ref X.1.1), (1, .int a0), (2, .int a1), (3, .int v30.1), (4, .int v30.2.1)] → W p_ l e_ (headSpec (ws_ yX4_runs cX4_runs 7 none) ({ frames := 3, cells := 0, slots := 0, locals := 72 })).room s_ m_ ([.ref X.1.1, .int a0, .int a1] : List Value).toArray below_ meth_ c_ H locs 0 0 (MQ below_ (mQv X out_ (mA lo hi)) ([.ref X.1.1, .int a0, .int a1] : List Value).toArray s_ 0 0 (mA lo hi)) (F0 m_ 126 ls []) := by
            intro w42_ hw_
            have hd := hq44
            subst hw_
            clear hL43 hq44
            intro H locs ls hW hS hl
            obtain ⟨w73, hL74, hq75⟩ := wt_bd_o hd
            have hX76 : ∀ w73_ : Int32 × MSt, w73_ = w73 → ∀ (H : Heap) (locs : List Loc) (ls : Array Slot), mW X w73_.2 H → va_S (mA lo hi) s_.heap H locs → lv_has ls 7 [(0, .ref X.1.1), (1, .int a0), (2, .int a1), (3, .int w73_.1), (4, .int v30.2.1)] → W p_ l e_ (headSpec (ws_ yX4_runs cX4_runs 7 none) ({ frames := 3, cells := 0, slots := 0, locals := 72 })).room s_ m_ ([.ref X.1.1, .int a0, .int a1] : List Value).toArray below_ meth_ c_ H locs 0 0 (MQ below_ (mQv X out_ (mA lo hi)) ([.ref X.1.1, .int a0, .int a1] : List Value).toArray s_ 0 0 (mA lo hi)) (F0 m_ 194 ls []) := by
              intro w73_ hw_
              have hd := hq75
              subst hw_
              clear hL74 hq75
              intro H locs ls hW hS hl
              refine lv_aload_n (pc := 194) hx hb dX4_runs_194 rfl (lv_at hl 0 rfl) ?_
              refine mr_get (pc := 195) (k := 42) (v := .int ((w73_.2.1 42))) hx hb hts hown hK hW (by decide) rfl q1571 dX4_runs_195 ?_
              refine lv_iconst (pc := 198) (v := -1) hx hb dX4_runs_198 (by decide) ?_
              refine lv_icmp_eq (pc := 199) (tgt := 223) hx hb dX4_runs_199 (by decide) (fun c96 => ?_) (fun c96 => ?_)
              · have hd := wt_it hd c96
                obtain ⟨n97, en97, hd⟩ := wt_lt_o hd
                refine lv_iinc (pc := 223) (k := 4) (v := n97) (lv' := [(4, .int n97), (0, .ref X.1.1), (1, .int a0), (2, .int a1), (3, .int w73_.1)]) hx hb dX4_runs_223 hl rfl en97.symm (by decide) rfl (fun ls hl => ?_)
                refine lv_goto (pc := 226) (tgt := 52) hx hb dX4_runs_226 (by decide) ?_
                exact ih36 _ (wt_again hd hk35) _ _ _ hW hS (lv_sub hl [1, 2, 3, 4, 0] rfl)
              · have hd := wt_if hd c96
                refine lv_aload_n (pc := 202) hx hb dX4_runs_202 rfl (lv_at hl 0 rfl) ?_
                refine mr_get (pc := 203) (k := 44) (v := .int ((w73_.2.1 44))) hx hb hts hown hK hW (by decide) rfl q1573 dX4_runs_203 ?_
                refine lv_iload (pc := 206) hx hb dX4_runs_206 (lv_at hl 4 rfl) ?_
                refine lv_icmp_ne (pc := 208) (tgt := 223) hx hb dX4_runs_208 (by decide) (fun c98 => ?_) (fun c98 => ?_)
                · have hd := wt_if hd c98
                  obtain ⟨n99, en99, hd⟩ := wt_lt_o hd
                  refine lv_iinc (pc := 223) (k := 4) (v := n99) (lv' := [(4, .int n99), (0, .ref X.1.1), (1, .int a0), (2, .int a1), (3, .int w73_.1)]) hx hb dX4_runs_223 hl rfl en99.symm (by decide) rfl (fun ls hl => ?_)
                  refine lv_goto (pc := 226) (tgt := 52) hx hb dX4_runs_226 (by decide) ?_
                  exact ih36 _ (wt_again hd hk35) _ _ _ hW hS (lv_sub hl [1, 2, 3, 4, 0] rfl)
                · have hd := wt_it hd c98
                  refine lv_aload_n (pc := 211) hx hb dX4_runs_211 rfl (lv_at hl 0 rfl) ?_
                  refine lv_aload_n (pc := 212) hx hb dX4_runs_212 rfl (lv_at hl 0 rfl) ?_
                  refine mr_get (pc := 213) (k := 42) (v := .int ((w73_.2.1 42))) hx hb hts hown hK hW (by decide) rfl q1571 dX4_runs_213 ?_
                  refine lv_aload_n (pc := 216) hx hb dX4_runs_216 rfl (lv_at hl 0 rfl) ?_
                  refine mr_get (pc := 217) (k := 43) (v := .int ((w73_.2.1 43))) hx hb hts hown hK hW (by decide) rfl q1572 dX4_runs_217 ?_
                  obtain ⟨w100, hc101, hd⟩ := wt_bd_o hd
                  refine kX4_touches (pc := 220) hx hb hml hown hts hK hJ hW hS hc101 hl.1 (Nat.le_of_ble_eq_true rfl) ⟨Nat.le_of_ble_eq_true rfl, Nat.le_of_ble_eq_true rfl⟩ ⟨Nat.le_refl _, Nat.le_refl _⟩ dX4_runs_220 (fun H locs hW hS => ?_)
                  obtain ⟨n102, en102, hd⟩ := wt_lt_o hd
                  refine lv_iinc (pc := 223) (k := 4) (v := n102) (lv' := [(4, .int n102), (0, .ref X.1.1), (1, .int a0), (2, .int a1), (3, .int w73_.1)]) hx hb dX4_runs_223 hl rfl en102.symm (by decide) rfl (fun ls hl => ?_)
                  refine lv_goto (pc := 226) (tgt := 52) hx hb dX4_runs_226 (by decide) ?_
                  exact ih36 _ (wt_again hd hk35) _ _ _ hW hS (lv_sub hl [1, 2, 3, 4, 0] rfl)
            have hI81 : ∀ (k80 : Nat) (v72 : Int32 × MSt), wt_wh (bX4_runs_6 a0 v30) k80 v72 = some w73 → ∀ (H : Heap) (locs : List Loc) (ls : Array Slot), mW X v72.2 H → va_S (mA lo hi) s_.heap H locs → lv_has ls 7 [(0, .ref X.1.1), (1, .int a0), (2, .int a1), (3, .int v72.1), (4, .int v30.2.1)] → W p_ l e_ (headSpec (ws_ yX4_runs cX4_runs 7 none) ({ frames := 3, cells := 0, slots := 0, locals := 72 })).room s_ m_ ([.ref X.1.1, .int a0, .int a1] : List Value).toArray below_ meth_ c_ H locs 0 0 (MQ below_ (mQv X out_ (mA lo hi)) ([.ref X.1.1, .int a0, .int a1] : List Value).toArray s_ 0 0 (mA lo hi)) (F0 m_ 126 ls []) := by
              intro k80
              induction k80 with
              | zero => intro v72 hd; exact absurd hd wt_wh_z
              | succ k80 ih78 =>
                intro v72 hd
                intro H locs ls hW hS hl
                obtain ⟨r79, hd, hk77⟩ := wt_wh_o hd
                unfold bX4_runs_6 at hd
                refine lv_iload_n (pc := 126) hx hb dX4_runs_126 rfl (lv_at hl 3 rfl) ?_
                refine lv_aload_n (pc := 127) hx hb dX4_runs_127 rfl (lv_at hl 0 rfl) ?_
                refine mr_get (pc := 128) (k := 25) (v := .ref (X.1.2.1 25)) hx hb hts hown hK hW (by decide) rfl q1554 dX4_runs_128 ?_
                refine lv_iload_n (pc := 131) hx hb dX4_runs_131 rfl (lv_at hl 1 rfl) ?_
                obtain ⟨h82, hd⟩ := wt_ck_o hd
                refine mr_ald (pc := 132) (k := 25) hx hb hK hW rfl h82 dX4_runs_132 ?_
                refine lv_icmp_ge (pc := 133) (tgt := 194) hx hb dX4_runs_133 (by decide) (fun c83 => ?_) (fun c83 => ?_)
                · have hd := wt_it hd c83
                  exact hX76 (v72.1, v72.2) (wt_exit hd hk77) _ _ _ hW hS hl
                · have hd := wt_if hd c83
                  refine lv_aload_n (pc := 136) hx hb dX4_runs_136 rfl (lv_at hl 0 rfl) ?_
                  refine mr_get (pc := 137) (k := 26) (v := .ref (X.1.2.1 26)) hx hb hts hown hK hW (by decide) rfl q1555 dX4_runs_137 ?_
                  refine lv_bipush (pc := 140) (v := 20) hx hb dX4_runs_140 (by decide) ?_
                  refine lv_iload_n (pc := 142) hx hb dX4_runs_142 rfl (lv_at hl 1 rfl) ?_
                  refine lv_imul (pc := 143) hx hb dX4_runs_143 ?_
                  refine lv_iload_n (pc := 144) hx hb dX4_runs_144 rfl (lv_at hl 3 rfl) ?_
                  refine lv_iadd (pc := 145) hx hb dX4_runs_145 ?_
                  obtain ⟨h84, hd⟩ := wt_ck_o hd
                  refine mr_row (pc := 146) (k := 26) hx hb hK hW rfl h84 dX4_runs_146 ?_
                  refine lv_iconst (pc := 147) (v := 3) hx hb dX4_runs_147 (by decide) ?_
                  obtain ⟨h85, hd⟩ := wt_ck_o hd
                  refine mr_gld (pc := 148) (k := 26) (i := (((((20 : Int32) * a0) + v72.1)).toNatClampNeg)) hx hb hK hW (vp_lt h84) rfl h85 dX4_runs_148 ?_
                  refine lv_iload (pc := 149) hx hb dX4_runs_149 (lv_at hl 4 rfl) ?_
                  refine lv_icmp_ne (pc := 151) (tgt := 194) hx hb dX4_runs_151 (by decide) (fun c86 => ?_) (fun c86 => ?_)
                  · have hd := wt_if hd c86
                    exact hX76 (v72.1, v72.2) (wt_exit hd hk77) _ _ _ hW hS hl
                  · have hd := wt_it hd c86
                    refine lv_aload_n (pc := 154) hx hb dX4_runs_154 rfl (lv_at hl 0 rfl) ?_
                    refine lv_iload_n (pc := 155) hx hb dX4_runs_155 rfl (lv_at hl 3 rfl) ?_
                    refine lv_aload_n (pc := 156) hx hb dX4_runs_156 rfl (lv_at hl 0 rfl) ?_
                    refine mr_get (pc := 157) (k := 26) (v := .ref (X.1.2.1 26)) hx hb hts hown hK hW (by decide) rfl q1555 dX4_runs_157 ?_
                    refine lv_bipush (pc := 160) (v := 20) hx hb dX4_runs_160 (by decide) ?_
                    refine lv_iload_n (pc := 162) hx hb dX4_runs_162 rfl (lv_at hl 1 rfl) ?_
                    refine lv_imul (pc := 163) hx hb dX4_runs_163 ?_
                    refine lv_iload_n (pc := 164) hx hb dX4_runs_164 rfl (lv_at hl 3 rfl) ?_
                    refine lv_iadd (pc := 165) hx hb dX4_runs_165 ?_
                    obtain ⟨h87, hd⟩ := wt_ck_o hd
                    refine mr_row (pc := 166) (k := 26) hx hb hK hW rfl h87 dX4_runs_166 ?_
                    obtain ⟨w88, hc89, hd⟩ := wt_bd_o hd
                    refine kX4_comes (pc := 167) hx hb hml hown hts hK hJ hW hS hc89 (vp_lt h87) hl.1 (Nat.le_of_ble_eq_true rfl) ⟨Nat.le_of_ble_eq_true rfl, Nat.le_of_ble_eq_true rfl⟩ ⟨Nat.le_refl _, Nat.le_refl _⟩ dX4_runs_167 (fun H locs hW hS => ?_)
                    refine lv_if_eq (pc := 170) (tgt := 188) hx hb dX4_runs_170 (by decide) (fun c90 => ?_) (fun c90 => ?_)
                    · have hd := wt_it hd c90
                      obtain ⟨n91, en91, hd⟩ := wt_lt_o hd
                      refine lv_iinc (pc := 188) (k := 3) (v := n91) (lv' := [(3, .int n91), (0, .ref X.1.1), (1, .int a0), (2, .int a1), (4, .int v30.2.1)]) hx hb dX4_runs_188 hl rfl en91.symm (by decide) rfl (fun ls hl => ?_)
                      refine lv_goto (pc := 191) (tgt := 126) hx hb dX4_runs_191 (by decide) ?_
                      exact ih78 _ (wt_again hd hk77) _ _ _ hW hS (lv_sub hl [1, 2, 3, 0, 4] rfl)
                    · have hd := wt_if hd c90
                      refine lv_aload_n (pc := 173) hx hb dX4_runs_173 rfl (lv_at hl 0 rfl) ?_
                      refine lv_aload_n (pc := 174) hx hb dX4_runs_174 rfl (lv_at hl 0 rfl) ?_
                      refine mr_get (pc := 175) (k := 26) (v := .ref (X.1.2.1 26)) hx hb hts hown hK hW (by decide) rfl q1555 dX4_runs_175 ?_
                      refine lv_bipush (pc := 178) (v := 20) hx hb dX4_runs_178 (by decide) ?_
                      refine lv_iload_n (pc := 180) hx hb dX4_runs_180 rfl (lv_at hl 1 rfl) ?_
                      refine lv_imul (pc := 181) hx hb dX4_runs_181 ?_
                      refine lv_iload_n (pc := 182) hx hb dX4_runs_182 rfl (lv_at hl 3 rfl) ?_
                      refine lv_iadd (pc := 183) hx hb dX4_runs_183 ?_
                      obtain ⟨h92, hd⟩ := wt_ck_o hd
                      refine mr_row (pc := 184) (k := 26) hx hb hK hW rfl h92 dX4_runs_184 ?_
                      obtain ⟨w93, hc94, hd⟩ := wt_bd_o hd
                      refine kX4_does (pc := 185) hx hb hml hown hts hK hJ hW hS hc94 (vp_lt h92) hl.1 (Nat.le_of_ble_eq_true rfl) ⟨Nat.le_of_ble_eq_true rfl, Nat.le_of_ble_eq_true rfl⟩ ⟨Nat.le_refl _, Nat.le_refl _⟩ dX4_runs_185 (fun H locs hW hS => ?_)
                      obtain ⟨n95, en95, hd⟩ := wt_lt_o hd
                      refine lv_iinc (pc := 188) (k := 3) (v := n95) (lv' := [(3, .int n95), (0, .ref X.1.1), (1, .int a0), (2, .int a1), (4, .int v30.2.1)]) hx hb dX4_runs_188 hl rfl en95.symm (by decide) rfl (fun ls hl => ?_)
                      refine lv_goto (pc := 191) (tgt := 126) hx hb dX4_runs_191 (by decide) ?_
                      exact ih78 _ (wt_again hd hk77) _ _ _ hW hS (lv_sub hl [1, 2, 3, 0, 4] rfl)
            obtain ⟨k80, hL74⟩ := wt_whC_o hL74
            exact hI81 k80 _ hL74 _ _ _ hW hS hl
          have hI50 : ∀ (k49 : Nat) (v41 : Int32 × MSt), wt_wh (bX4_runs_4 v30) k49 v41 = some w42 → ∀ (H : Heap) (locs : List Loc) (ls : Array Slot), mW X v41.2 H → va_S (mA lo hi) s_.heap H locs → lv_has ls 7 [(0, .ref X.1.1), (1, .int a0), (2, .int a1), (3, .int v30.1), (4, .int v30.2.1), (5, .int v41.1)] → W p_ l e_ (headSpec (ws_ yX4_runs cX4_runs 7 none) ({ frames := 3, cells := 0, slots := 0, locals := 72 })).room s_ m_ ([.ref X.1.1, .int a0, .int a1] : List Value).toArray below_ meth_ c_ H locs 0 0 (MQ below_ (mQv X out_ (mA lo hi)) ([.ref X.1.1, .int a0, .int a1] : List Value).toArray s_ 0 0 (mA lo hi)) (F0 m_ 61 ls []) := by
            intro k49
            induction k49 with
            | zero => intro v41 hd; exact absurd hd wt_wh_z
            | succ k49 ih47 =>
              intro v41 hd
              intro H locs ls hW hS hl
              obtain ⟨r48, hd, hk46⟩ := wt_wh_o hd
              unfold bX4_runs_4 at hd
              refine lv_iload (pc := 61) hx hb dX4_runs_61 (lv_at hl 5 rfl) ?_
              refine lv_bipush (pc := 63) (v := 10) hx hb dX4_runs_63 (by decide) ?_
              refine lv_icmp_ge (pc := 65) (tgt := 126) hx hb dX4_runs_65 (by decide) (fun c51 => ?_) (fun c51 => ?_)
              · have hd := wt_it hd c51
                exact hX45 v41.2 (wt_exit hd hk46) _ _ _ hW hS (lv_sub hl [0, 1, 2, 3, 4] rfl)
              · have hd := wt_if hd c51
                refine lv_iload (pc := 68) hx hb dX4_runs_68 (lv_at hl 4 rfl) ?_
                refine lv_if_le (pc := 70) (tgt := 126) hx hb dX4_runs_70 (by decide) (fun c52 => ?_) (fun c52 => ?_)
                · have hd := wt_it hd c52
                  exact hX45 v41.2 (wt_exit hd hk46) _ _ _ hW hS (lv_sub hl [0, 1, 2, 3, 4] rfl)
                · have hd := wt_if hd c52
                  refine lv_iconst (pc := 73) (v := 0) hx hb dX4_runs_73 (by decide) ?_
                  refine lv_istore (pc := 74) (lv' := [(6, .int (0 : Int32)), (0, .ref X.1.1), (1, .int a0), (2, .int a1), (3, .int v30.1), (4, .int v30.2.1), (5, .int v41.1)]) hx hb dX4_runs_74 hl (by decide) rfl (fun ls hl => ?_)
                  obtain ⟨w54, hL55, hq56⟩ := wt_bd_o hd
                  have hX57 : ∀ w54_ : MSt, w54_ = w54 → ∀ (H : Heap) (locs : List Loc) (ls : Array Slot), mW X w54_ H → va_S (mA lo hi) s_.heap H locs → lv_has ls 7 [(0, .ref X.1.1), (1, .int a0), (2, .int a1), (3, .int v30.1), (4, .int v30.2.1), (5, .int v41.1)] → W p_ l e_ (headSpec (ws_ yX4_runs cX4_runs 7 none) ({ frames := 3, cells := 0, slots := 0, locals := 72 })).room s_ m_ ([.ref X.1.1, .int a0, .int a1] : List Value).toArray below_ meth_ c_ H locs 0 0 (MQ below_ (mQv X out_ (mA lo hi)) ([.ref X.1.1, .int a0, .int a1] : List Value).toArray s_ 0 0 (mA lo hi)) (F0 m_ 120 ls []) := by
                    intro w54_ hw_
                    have hd := hq56
                    subst hw_
                    clear hL55 hq56
                    intro H locs ls hW hS hl
                    obtain ⟨n71, en71, hd⟩ := wt_lt_o hd
                    refine lv_iinc (pc := 120) (k := 5) (v := n71) (lv' := [(5, .int n71), (0, .ref X.1.1), (1, .int a0), (2, .int a1), (3, .int v30.1), (4, .int v30.2.1)]) hx hb dX4_runs_120 hl rfl en71.symm (by decide) rfl (fun ls hl => ?_)
                    refine lv_goto (pc := 123) (tgt := 61) hx hb dX4_runs_123 (by decide) ?_
                    exact ih47 _ (wt_again hd hk46) _ _ _ hW hS (lv_sub hl [1, 2, 3, 4, 5, 0] rfl)
                  have hI62 : ∀ (k61 : Nat) (v53 : Int32 × MSt), wt_wh (bX4_runs_5 v41) k61 v53 = some w54 → ∀ (H : Heap) (locs : List Loc) (ls : Array Slot), mW X v53.2 H → va_S (mA lo hi) s_.heap H locs → lv_has ls 7 [(0, .ref X.1.1), (1, .int a0), (2, .int a1), (3, .int v30.1), (4, .int v30.2.1), (5, .int v41.1), (6, .int v53.1)] → W p_ l e_ (headSpec (ws_ yX4_runs cX4_runs 7 none) ({ frames := 3, cells := 0, slots := 0, locals := 72 })).room s_ m_ ([.ref X.1.1, .int a0, .int a1] : List Value).toArray below_ meth_ c_ H locs 0 0 (MQ below_ (mQv X out_ (mA lo hi)) ([.ref X.1.1, .int a0, .int a1] : List Value).toArray s_ 0 0 (mA lo hi)) (F0 m_ 76 ls []) := by
                    intro k61
                    induction k61 with
                    | zero => intro v53 hd; exact absurd hd wt_wh_z
                    | succ k61 ih59 =>
                      intro v53 hd
                      intro H locs ls hW hS hl
                      obtain ⟨r60, hd, hk58⟩ := wt_wh_o hd
                      unfold bX4_runs_5 at hd
                      refine lv_iload (pc := 76) hx hb dX4_runs_76 (lv_at hl 6 rfl) ?_
                      refine lv_bipush (pc := 78) (v := 10) hx hb dX4_runs_78 (by decide) ?_
                      refine lv_icmp_ge (pc := 80) (tgt := 120) hx hb dX4_runs_80 (by decide) (fun c63 => ?_) (fun c63 => ?_)
                      · have hd := wt_it hd c63
                        exact hX57 v53.2 (wt_exit hd hk58) _ _ _ hW hS (lv_sub hl [0, 1, 2, 3, 4, 5] rfl)
                      · have hd := wt_if hd c63
                        refine lv_aload_n (pc := 83) hx hb dX4_runs_83 rfl (lv_at hl 0 rfl) ?_
                        refine mr_get (pc := 84) (k := 39) (v := .ref (X.1.2.1 39)) hx hb hts hown hK hW (by decide) rfl q1568 dX4_runs_84 ?_
                        refine lv_iload (pc := 87) hx hb dX4_runs_87 (lv_at hl 5 rfl) ?_
                        obtain ⟨h64, hd⟩ := wt_ck_o hd
                        refine mr_row (pc := 89) (k := 39) hx hb hK hW rfl h64 dX4_runs_89 ?_
                        refine lv_iload (pc := 90) hx hb dX4_runs_90 (lv_at hl 6 rfl) ?_
                        refine lv_aload_n (pc := 92) hx hb dX4_runs_92 rfl (lv_at hl 0 rfl) ?_
                        refine mr_get (pc := 93) (k := 39) (v := .ref (X.1.2.1 39)) hx hb hts hown hK hW (by decide) rfl q1568 dX4_runs_93 ?_
                        refine lv_iload (pc := 96) hx hb dX4_runs_96 (lv_at hl 5 rfl) ?_
                        obtain ⟨h65, hd⟩ := wt_ck_o hd
                        refine mr_row (pc := 98) (k := 39) hx hb hK hW rfl h65 dX4_runs_98 ?_
                        refine lv_iload (pc := 99) hx hb dX4_runs_99 (lv_at hl 6 rfl) ?_
                        obtain ⟨h66, hd⟩ := wt_ck_o hd
                        refine mr_gld (pc := 101) (k := 39) (i := (v41.1.toNatClampNeg)) hx hb hK hW (vp_lt h65) rfl h66 dX4_runs_101 ?_
                        refine lv_aload_n (pc := 102) hx hb dX4_runs_102 rfl (lv_at hl 0 rfl) ?_
                        refine mr_get (pc := 103) (k := 13) (v := .ref (X.1.2.1 13)) hx hb hts hown hK hW (by decide) rfl q1542 dX4_runs_103 ?_
                        refine lv_iload (pc := 106) hx hb dX4_runs_106 (lv_at hl 6 rfl) ?_
                        obtain ⟨h67, hd⟩ := wt_ck_o hd
                        refine mr_ald (pc := 108) (k := 13) hx hb hK hW rfl h67 dX4_runs_108 ?_
                        refine lv_imul (pc := 109) hx hb dX4_runs_109 ?_
                        refine lv_bipush (pc := 110) (v := 16) hx hb dX4_runs_110 (by decide) ?_
                        refine lv_idiv (pc := 112) hx hb dX4_runs_112 (by decide) ?_
                        obtain ⟨h68, hd⟩ := wt_ck_o hd
                        obtain ⟨σ69, eσ69, hd⟩ := wt_lt_o hd
                        refine mr_gst (pc := 113) (k := 39) (i := (v41.1.toNatClampNeg)) hx hb hK hW hJ hS (vp_lt h64) rfl h68 eσ69 dX4_runs_113 (fun H locs hW hS => ?_)
                        obtain ⟨n70, en70, hd⟩ := wt_lt_o hd
                        refine lv_iinc (pc := 114) (k := 6) (v := n70) (lv' := [(6, .int n70), (0, .ref X.1.1), (1, .int a0), (2, .int a1), (3, .int v30.1), (4, .int v30.2.1), (5, .int v41.1)]) hx hb dX4_runs_114 hl rfl en70.symm (by decide) rfl (fun ls hl => ?_)
                        refine lv_goto (pc := 117) (tgt := 76) hx hb dX4_runs_117 (by decide) ?_
                        exact ih59 _ (wt_again hd hk58) _ _ _ hW hS (lv_sub hl [1, 2, 3, 4, 5, 6, 0] rfl)
                  obtain ⟨k61, hL55⟩ := wt_whC_o hL55
                  exact hI62 k61 _ hL55 _ _ _ hW hS (lv_sub hl [1, 2, 3, 4, 5, 6, 0] rfl)
          obtain ⟨k49, hL43⟩ := wt_whC_o hL43
          exact hI50 k49 _ hL43 _ _ _ hW hS (lv_sub hl [1, 2, 3, 4, 5, 0] rfl)
    obtain ⟨k38, hL32⟩ := wt_whC_o hL32
    exact hI39 k38 _ hL32 _ _ _ hW hS (lv_sub hl [2, 3, 4, 1, 0] rfl)
  have hI10 : ∀ (k9 : Nat) (v1 : Int32 × MSt), wt_wh (bX4_runs_1) k9 v1 = some w2 → ∀ (H : Heap) (locs : List Loc) (ls : Array Slot), mW X v1.2 H → va_S (mA lo hi) s_.heap H locs → lv_has ls 7 [(0, .ref X.1.1), (1, .int a0), (2, .int a1), (3, .int v1.1)] → W p_ l e_ (headSpec (ws_ yX4_runs cX4_runs 7 none) ({ frames := 3, cells := 0, slots := 0, locals := 72 })).room s_ m_ ([.ref X.1.1, .int a0, .int a1] : List Value).toArray below_ meth_ c_ H locs 0 0 (MQ below_ (mQv X out_ (mA lo hi)) ([.ref X.1.1, .int a0, .int a1] : List Value).toArray s_ 0 0 (mA lo hi)) (F0 m_ 2 ls []) := by
    intro k9
    induction k9 with
    | zero => intro v1 hd; exact absurd hd wt_wh_z
    | succ k9 ih7 =>
      intro v1 hd
      intro H locs ls hW hS hl
      obtain ⟨r8, hd, hk6⟩ := wt_wh_o hd
      unfold bX4_runs_1 at hd
      refine lv_iload_n (pc := 2) hx hb dX4_runs_2 rfl (lv_at hl 3 rfl) ?_
      refine lv_bipush (pc := 3) (v := 10) hx hb dX4_runs_3 (by decide) ?_
      refine lv_icmp_ge (pc := 5) (tgt := 47) hx hb dX4_runs_5 (by decide) (fun c11 => ?_) (fun c11 => ?_)
      · have hd := wt_it hd c11
        exact hX5 v1.2 (wt_exit hd hk6) _ _ _ hW hS (lv_sub hl [0, 1, 2] rfl)
      · have hd := wt_if hd c11
        refine lv_aload_n (pc := 8) hx hb dX4_runs_8 rfl (lv_at hl 0 rfl) ?_
        refine mr_get (pc := 9) (k := 40) (v := .ref (X.1.2.1 40)) hx hb hts hown hK hW (by decide) rfl q1569 dX4_runs_9 ?_
        refine lv_iload_n (pc := 12) hx hb dX4_runs_12 rfl (lv_at hl 3 rfl) ?_
        refine lv_iconst (pc := 13) (v := -1) hx hb dX4_runs_13 (by decide) ?_
        obtain ⟨h12, hd⟩ := wt_ck_o hd
        obtain ⟨σ13, eσ13, hd⟩ := wt_lt_o hd
        refine mr_ast (pc := 14) (k := 40) hx hb hK hW hJ hS rfl h12 eσ13 dX4_runs_14 (fun H locs hW hS => ?_)
        refine lv_iconst (pc := 15) (v := 0) hx hb dX4_runs_15 (by decide) ?_
        refine lv_istore (pc := 16) (lv' := [(4, .int (0 : Int32)), (0, .ref X.1.1), (1, .int a0), (2, .int a1), (3, .int v1.1)]) hx hb dX4_runs_16 hl (by decide) rfl (fun ls hl => ?_)
        obtain ⟨w15, hL16, hq17⟩ := wt_bd_o hd
        have hX18 : ∀ w15_ : MSt, w15_ = w15 → ∀ (H : Heap) (locs : List Loc) (ls : Array Slot), mW X w15_ H → va_S (mA lo hi) s_.heap H locs → lv_has ls 7 [(0, .ref X.1.1), (1, .int a0), (2, .int a1), (3, .int v1.1)] → W p_ l e_ (headSpec (ws_ yX4_runs cX4_runs 7 none) ({ frames := 3, cells := 0, slots := 0, locals := 72 })).room s_ m_ ([.ref X.1.1, .int a0, .int a1] : List Value).toArray below_ meth_ c_ H locs 0 0 (MQ below_ (mQv X out_ (mA lo hi)) ([.ref X.1.1, .int a0, .int a1] : List Value).toArray s_ 0 0 (mA lo hi)) (F0 m_ 41 ls []) := by
          intro w15_ hw_
          have hd := hq17
          subst hw_
          clear hL16 hq17
          intro H locs ls hW hS hl
          obtain ⟨n29, en29, hd⟩ := wt_lt_o hd
          refine lv_iinc (pc := 41) (k := 3) (v := n29) (lv' := [(3, .int n29), (0, .ref X.1.1), (1, .int a0), (2, .int a1)]) hx hb dX4_runs_41 hl rfl en29.symm (by decide) rfl (fun ls hl => ?_)
          refine lv_goto (pc := 44) (tgt := 2) hx hb dX4_runs_44 (by decide) ?_
          exact ih7 _ (wt_again hd hk6) _ _ _ hW hS (lv_sub hl [1, 2, 3, 0] rfl)
        have hI23 : ∀ (k22 : Nat) (v14 : Int32 × MSt), wt_wh (bX4_runs_2 v1) k22 v14 = some w15 → ∀ (H : Heap) (locs : List Loc) (ls : Array Slot), mW X v14.2 H → va_S (mA lo hi) s_.heap H locs → lv_has ls 7 [(0, .ref X.1.1), (1, .int a0), (2, .int a1), (3, .int v1.1), (4, .int v14.1)] → W p_ l e_ (headSpec (ws_ yX4_runs cX4_runs 7 none) ({ frames := 3, cells := 0, slots := 0, locals := 72 })).room s_ m_ ([.ref X.1.1, .int a0, .int a1] : List Value).toArray below_ meth_ c_ H locs 0 0 (MQ below_ (mQv X out_ (mA lo hi)) ([.ref X.1.1, .int a0, .int a1] : List Value).toArray s_ 0 0 (mA lo hi)) (F0 m_ 18 ls []) := by
          intro k22
          induction k22 with
          | zero => intro v14 hd; exact absurd hd wt_wh_z
          | succ k22 ih20 =>
            intro v14 hd
            intro H locs ls hW hS hl
            obtain ⟨r21, hd, hk19⟩ := wt_wh_o hd
            unfold bX4_runs_2 at hd
            refine lv_iload (pc := 18) hx hb dX4_runs_18 (lv_at hl 4 rfl) ?_
            refine lv_bipush (pc := 20) (v := 10) hx hb dX4_runs_20 (by decide) ?_
            refine lv_icmp_ge (pc := 22) (tgt := 41) hx hb dX4_runs_22 (by decide) (fun c24 => ?_) (fun c24 => ?_)
            · have hd := wt_it hd c24
              exact hX18 v14.2 (wt_exit hd hk19) _ _ _ hW hS (lv_sub hl [0, 1, 2, 3] rfl)
            · have hd := wt_if hd c24
              refine lv_aload_n (pc := 25) hx hb dX4_runs_25 rfl (lv_at hl 0 rfl) ?_
              refine mr_get (pc := 26) (k := 39) (v := .ref (X.1.2.1 39)) hx hb hts hown hK hW (by decide) rfl q1568 dX4_runs_26 ?_
              refine lv_iload_n (pc := 29) hx hb dX4_runs_29 rfl (lv_at hl 3 rfl) ?_
              obtain ⟨h25, hd⟩ := wt_ck_o hd
              refine mr_row (pc := 30) (k := 39) hx hb hK hW rfl h25 dX4_runs_30 ?_
              refine lv_iload (pc := 31) hx hb dX4_runs_31 (lv_at hl 4 rfl) ?_
              refine lv_iconst (pc := 33) (v := 0) hx hb dX4_runs_33 (by decide) ?_
              obtain ⟨h26, hd⟩ := wt_ck_o hd
              obtain ⟨σ27, eσ27, hd⟩ := wt_lt_o hd
              refine mr_gst (pc := 34) (k := 39) (i := (v1.1.toNatClampNeg)) hx hb hK hW hJ hS (vp_lt h25) rfl h26 eσ27 dX4_runs_34 (fun H locs hW hS => ?_)
              obtain ⟨n28, en28, hd⟩ := wt_lt_o hd
              refine lv_iinc (pc := 35) (k := 4) (v := n28) (lv' := [(4, .int n28), (0, .ref X.1.1), (1, .int a0), (2, .int a1), (3, .int v1.1)]) hx hb dX4_runs_35 hl rfl en28.symm (by decide) rfl (fun ls hl => ?_)
              refine lv_goto (pc := 38) (tgt := 18) hx hb dX4_runs_38 (by decide) ?_
              exact ih20 _ (wt_again hd hk19) _ _ _ hW hS (lv_sub hl [1, 2, 3, 4, 0] rfl)
        obtain ⟨k22, hL16⟩ := wt_whC_o hL16
        exact hI23 k22 _ hL16 _ _ _ hW hS (lv_sub hl [1, 2, 3, 4, 0] rfl)
  obtain ⟨k9, hL3⟩ := wt_whC_o hL3
  exact hI10 k9 _ hL3 _ _ _ hW hS (lv_sub hl [1, 2, 3, 0] rfl)
theorem kX4_runs {p : Program} {l : Launch} {e : Env} {R : Room} {s : State} {m : MethodId} {args : Array Value} {below : List Frame} {meth : Method} {c : Code} {H : Heap} {locs : List Loc} {cells slots : Nat} {Q : State → Prop} {cc : ByteArray} {pc : Nat} {ls : Array Slot} {rest : List Value} {H0 : Heap} {nL : Nat} {X : MPar} {lo hi : Nat} {σ : MSt} {a0 : Int32} {a1 : Int32} {out_ : MSt} (hx : p.tables.exec = Jvm.exec) (hb : c.code = cc) (hml : c.maxLocals = nL) (hown : s.vm.findClass RX4 = some m.cls) (hts : ∀ w ∈ lw_all, w.before args s = true) (hK : mK X s) (hJ : mJ X lo hi) (hW : mW X σ H) (hS : va_S (mA lo hi) H0 H locs) (hd : dX4_runs σ a0 a1 = some out_) (hsz : ls.size = nL) (hrm : (rest.map fun v => v.category).sum ≤ 8) (hR : 4 ≤ R.frames ∧ 98 ≤ R.locals) (hcs : cells ≤ R.cells ∧ slots ≤ R.slots) (hdg : decode cc pc = .ok (.invokevirtual 241, 3)) (kk : ∀ (H1 : Heap) (locs1 : List Loc), mW X out_ H1 → va_S (mA lo hi) H0 H1 locs1 → W p l e R s m args below meth c H1 locs1 cells slots Q (F0 m (pc + 3) ls (rest))) : W p l e R s m args below meth c H locs cells slots Q (F0 m pc ls (.int a1 :: .int a0 :: .ref X.1.1 :: rest)) := by
  refine va_callv (va_runV (As := [.int a0, .int a1]) (rest := rest) ⟨hx, hb, hml, hown, hts⟩ (wX4_runs l hJ hd) (cwV 2 hts (lw_V q1797 q1799 qs42 q88 q1800) rfl rfl rfl (by decide +kernel) hR) (mr_pre hK hW) rfl rfl hsz rfl (lv_room hrm) hdg hcs) hS (fun _ _ h => h) (fun _ h => h) (fun u t H1 locs1 ht hvm hp hB hz hk hS1 => ?_)
  have hW1 : mW X out_ t.heap := hB.1
  rw [ht] at hW1
  exact kk H1 locs1 hW1 hS1
noncomputable def dX4_lies (σ : MSt) (a0 : Int32) (a1 : Int32) (a2 : Int32) (a3 : Int32) : Option (Int32 × MSt) :=
  wt_lt (m_sF σ 0 (0 : Int32)) fun σ1 => wt_bd (dX4_isStory σ1 a0) fun w2 => wt_bd (if w2 = 0 then (some (1 : Int32)) else (some (0 : Int32))) fun w4 => wt_bd (dX4_bad σ1 w4 (1 : Int32)) fun w9 => if w9.1 = 0 then (wt_bd (dX4_badPlace w9.2 a1 a2 a3 (2 : Int32)) fun w12 => if w12.1 = 0 then (wt_bd (dX4_runs w12.2 a0 a3) fun w15 => wt_ck (vp_in a1 10) <| wt_ck (vp_in a2 10) <| some ((w15.2.2 39 (a1.toNatClampNeg) a2.toNatClampNeg), w15)) else (some ((0 : Int32), w12.2))) else (some ((0 : Int32), w9.2))
set_option maxHeartbeats 4000000 in
theorem wX4_lies (l : Launch) {X : MPar} {lo hi : Nat} (hJ : mJ X lo hi) {σ : MSt} {a0 : Int32} {a1 : Int32} {a2 : Int32} {a3 : Int32} {out_ : Int32 × MSt} (hd : dX4_lies σ a0 a1 a2 a3 = some out_) : Met l yX4_lies (ws_ yX4_lies cX4_lies 5 (some .int)) ({ frames := 4, cells := 0, slots := 0, locals := 98 }) (mP X σ [.ref X.1.1, .int a0, .int a1, .int a2, .int a3]) (mQi X out_.1 out_.2 (mA lo hi)) 0 0 (mA lo hi) := by
  refine Met.ofW (cc := cX4_lies) (maxL := 5) (ret := (some .int)) (by decide) rfl ?_
  intro p_ e_ s_ m_ args_ below_ meth_ c_ s₁_ B hml hv
  obtain ⟨rfl, hW, hK⟩ := hv
  have hx := B.exec
  have hb := B.bytes
  have hr := B.returns
  have hts := atoms_spec (ws := (ws_ yX4_lies cX4_lies 5 (some .int))) B.pre
  have hts : ∀ w ∈ lw_all, w.before _ s_ = true := fun w h => hts w (List.mem_cons_of_mem _ h)
  have hown : s_.vm.findClass RX4 = some m_.cls := findClass_of_methodNamed B.named
  have hlocks := B.notSynchronized
  have hS : va_S (mA lo hi) s_.heap s_.heap [] := va_S.rf
  have hl := lv_entry ([.ref X.1.1, .int a0, .int a1, .int a2, .int a3]) (n := 5) (Nat.le_of_ble_eq_true rfl)
  rw [lg_entry_eq]
  generalize (lg_sl ([.ref X.1.1, .int a0, .int a1, .int a2, .int a3]) ++ List.replicate (5 - (lg_sl ([.ref X.1.1, .int a0, .int a1, .int a2, .int a3])).length) Slot.unset).toArray = ls at hl ⊢
  have hl : lv_has ls 5 [(0, .ref X.1.1), (1, .int a0), (2, .int a1), (3, .int a2), (4, .int a3)] := hl
  unfold dX4_lies at hd
  refine lv_aload_n (pc := 0) hx hb dX4_lies_0 rfl (lv_at hl 0 rfl) ?_
  refine lv_iconst (pc := 1) (v := 0) hx hb dX4_lies_1 (by decide) ?_
  obtain ⟨σ1, eσ1, hd⟩ := wt_lt_o hd
  refine mr_put (pc := 2) (k := 0) hx hb hts hown hK hW hJ hS (by decide) rfl eσ1 q1529 dX4_lies_2 (fun H locs hW hS => ?_)
  refine lv_aload_n (pc := 5) hx hb dX4_lies_5 rfl (lv_at hl 0 rfl) ?_
  refine lv_aload_n (pc := 6) hx hb dX4_lies_6 rfl (lv_at hl 0 rfl) ?_
  refine lv_iload_n (pc := 7) hx hb dX4_lies_7 rfl (lv_at hl 1 rfl) ?_
  obtain ⟨w2, hc3, hd⟩ := wt_bd_o hd
  refine kX4_isStory (pc := 8) hx hb hml hown hts hK hJ hW hS hc3 hl.1 (Nat.le_of_ble_eq_true rfl) ⟨Nat.le_of_ble_eq_true rfl, Nat.le_of_ble_eq_true rfl⟩ ⟨Nat.le_refl _, Nat.le_refl _⟩ dX4_lies_8 (fun H locs hW hS => ?_)
  obtain ⟨w4, hj5, hq6⟩ := wt_bd_o hd
  have hX7 : ∀ w4_ : Int32, w4_ = w4 → ∀ (H : Heap) (locs : List Loc) (ls : Array Slot), mW X σ1 H → va_S (mA lo hi) s_.heap H locs → lv_has ls 5 [(0, .ref X.1.1), (1, .int a0), (2, .int a1), (3, .int a2), (4, .int a3)] → W p_ l e_ (headSpec (ws_ yX4_lies cX4_lies 5 (some .int)) ({ frames := 4, cells := 0, slots := 0, locals := 98 })).room s_ m_ ([.ref X.1.1, .int a0, .int a1, .int a2, .int a3] : List Value).toArray below_ meth_ c_ H locs 0 0 (MQ below_ (mQi X out_.1 out_.2 (mA lo hi)) ([.ref X.1.1, .int a0, .int a1, .int a2, .int a3] : List Value).toArray s_ 0 0 (mA lo hi)) (F0 m_ 19 ls [.int w4_, .ref X.1.1]) := by
    intro w4_ hw_
    have hd := hq6
    subst hw_
    clear hj5 hq6
    intro H locs ls hW hS hl
    refine lv_iconst (pc := 19) (v := 1) hx hb dX4_lies_19 (by decide) ?_
    obtain ⟨w9, hc10, hd⟩ := wt_bd_o hd
    refine kX4_bad (pc := 20) hx hb hml hown hts hK hJ hW hS hc10 hl.1 (Nat.le_of_ble_eq_true rfl) ⟨Nat.le_of_ble_eq_true rfl, Nat.le_of_ble_eq_true rfl⟩ ⟨Nat.le_refl _, Nat.le_refl _⟩ dX4_lies_20 (fun H locs hW hS => ?_)
    refine lv_if_ne (pc := 23) (tgt := 38) hx hb dX4_lies_23 (by decide) (fun c11 => ?_) (fun c11 => ?_)
    · have hd := wt_if hd c11
      refine lv_iconst (pc := 38) (v := 0) hx hb dX4_lies_38 (by decide) ?_
      exact mr_iret hx hb hr rfl hlocks (wt_p1 hd) (wt_p2 hd) hW hK hS dX4_lies_39
    · have hd := wt_it hd c11
      refine lv_aload_n (pc := 26) hx hb dX4_lies_26 rfl (lv_at hl 0 rfl) ?_
      refine lv_iload_n (pc := 27) hx hb dX4_lies_27 rfl (lv_at hl 2 rfl) ?_
      refine lv_iload_n (pc := 28) hx hb dX4_lies_28 rfl (lv_at hl 3 rfl) ?_
      refine lv_iload (pc := 29) hx hb dX4_lies_29 (lv_at hl 4 rfl) ?_
      refine lv_iconst (pc := 31) (v := 2) hx hb dX4_lies_31 (by decide) ?_
      obtain ⟨w12, hc13, hd⟩ := wt_bd_o hd
      refine kX4_badPlace (pc := 32) hx hb hml hown hts hK hJ hW hS hc13 hl.1 (Nat.le_of_ble_eq_true rfl) ⟨Nat.le_of_ble_eq_true rfl, Nat.le_of_ble_eq_true rfl⟩ ⟨Nat.le_refl _, Nat.le_refl _⟩ dX4_lies_32 (fun H locs hW hS => ?_)
      refine lv_if_eq (pc := 35) (tgt := 40) hx hb dX4_lies_35 (by decide) (fun c14 => ?_) (fun c14 => ?_)
      · have hd := wt_it hd c14
        refine lv_aload_n (pc := 40) hx hb dX4_lies_40 rfl (lv_at hl 0 rfl) ?_
        refine lv_iload_n (pc := 41) hx hb dX4_lies_41 rfl (lv_at hl 1 rfl) ?_
        refine lv_iload (pc := 42) hx hb dX4_lies_42 (lv_at hl 4 rfl) ?_
        obtain ⟨w15, hc16, hd⟩ := wt_bd_o hd
        refine kX4_runs (pc := 44) hx hb hml hown hts hK hJ hW hS hc16 hl.1 (Nat.le_of_ble_eq_true rfl) ⟨Nat.le_of_ble_eq_true rfl, Nat.le_of_ble_eq_true rfl⟩ ⟨Nat.le_refl _, Nat.le_refl _⟩ dX4_lies_44 (fun H locs hW hS => ?_)
        refine lv_aload_n (pc := 47) hx hb dX4_lies_47 rfl (lv_at hl 0 rfl) ?_
        refine mr_get (pc := 48) (k := 39) (v := .ref (X.1.2.1 39)) hx hb hts hown hK hW (by decide) rfl q1568 dX4_lies_48 ?_
        refine lv_iload_n (pc := 51) hx hb dX4_lies_51 rfl (lv_at hl 2 rfl) ?_
        obtain ⟨h17, hd⟩ := wt_ck_o hd
        refine mr_row (pc := 52) (k := 39) hx hb hK hW rfl h17 dX4_lies_52 ?_
        refine lv_iload_n (pc := 53) hx hb dX4_lies_53 rfl (lv_at hl 3 rfl) ?_
        obtain ⟨h18, hd⟩ := wt_ck_o hd
        refine mr_gld (pc := 54) (k := 39) (i := (a1.toNatClampNeg)) hx hb hK hW (vp_lt h17) rfl h18 dX4_lies_54 ?_
        exact mr_iret hx hb hr rfl hlocks (wt_p1 hd) (wt_p2 hd) hW hK hS dX4_lies_55
      · have hd := wt_if hd c14
        refine lv_iconst (pc := 38) (v := 0) hx hb dX4_lies_38 (by decide) ?_
        exact mr_iret hx hb hr rfl hlocks (wt_p1 hd) (wt_p2 hd) hW hK hS dX4_lies_39
  have hd := hj5
  refine lv_if_ne (pc := 11) (tgt := 18) hx hb dX4_lies_11 (by decide) (fun c8 => ?_) (fun c8 => ?_)
  · have hd := wt_if hd c8
    refine lv_iconst (pc := 18) (v := 0) hx hb dX4_lies_18 (by decide) ?_
    exact hX7 (0 : Int32) (Option.some.inj hd) _ _ _ hW hS hl
  · have hd := wt_it hd c8
    refine lv_iconst (pc := 14) (v := 1) hx hb dX4_lies_14 (by decide) ?_
    refine lv_goto (pc := 15) (tgt := 19) hx hb dX4_lies_15 (by decide) ?_
    exact hX7 (1 : Int32) (Option.some.inj hd) _ _ _ hW hS hl
noncomputable def bX4_pileAt_1 (σ : MSt) (a0 : Int32) (w1 : Int32) (v3 : Int32 × Int32) : Option ((Int32 × Int32) ⊕ (Int32)) :=
  if (10 : Int32) ≤ v3.2 then (some (.inr v3.1)) else (if ((w1 >>> (v3.2 &&& 31)) &&& (1 : Int32)) = (1 : Int32) then (wt_ck (vp_in a0 10) <| wt_ck (vp_in v3.2 10) <| wt_ck (vp_in v3.2 10) <| wt_lt ((v3.1 + ((σ.2.2 39 (a0.toNatClampNeg) v3.2.toNatClampNeg) + (σ.2.1 14 v3.2.toNatClampNeg)))) fun n20 => wt_lt (v3.2 + (1 : Int32)) fun n21 => some (.inl (n20, n21))) else (wt_lt ((v3.1 + (0 : Int32))) fun n15 => wt_lt (v3.2 + (1 : Int32)) fun n16 => some (.inl (n15, n16))))
noncomputable def dX4_pileAt (σ : MSt) (a0 : Int32) (a1 : Int32) : Option (Int32) :=
  wt_bd (dX4_alikeOf σ a1) fun w1 => wt_bd (wt_whC (bX4_pileAt_1 σ a0 w1) ((0 : Int32), (0 : Int32))) fun w4 => wt_bd (dX4_less w4 (60 : Int32)) fun w22 => some w22
set_option maxHeartbeats 4000000 in
theorem wX4_pileAt (l : Launch) {X : MPar} {lo hi : Nat} (hJ : mJ X lo hi) {σ : MSt} {a0 : Int32} {a1 : Int32} {out_ : Int32} (hd : dX4_pileAt σ a0 a1 = some out_) : Met l yX4_pileAt (ws_ yX4_pileAt cX4_pileAt 6 (some .int)) ({ frames := 1, cells := 0, slots := 0, locals := 24 }) (mP X σ [.ref X.1.1, .int a0, .int a1]) (mQi X out_ σ (mA lo hi)) 0 0 (mA lo hi) := by
  refine Met.ofW (cc := cX4_pileAt) (maxL := 6) (ret := (some .int)) (by decide) rfl ?_
  intro p_ e_ s_ m_ args_ below_ meth_ c_ s₁_ B hml hv
  obtain ⟨rfl, hW, hK⟩ := hv
  have hx := B.exec
  have hb := B.bytes
  have hr := B.returns
  have hts := atoms_spec (ws := (ws_ yX4_pileAt cX4_pileAt 6 (some .int))) B.pre
  have hts : ∀ w ∈ lw_all, w.before _ s_ = true := fun w h => hts w (List.mem_cons_of_mem _ h)
  have hown : s_.vm.findClass RX4 = some m_.cls := findClass_of_methodNamed B.named
  have hlocks := B.notSynchronized
  have hS : va_S (mA lo hi) s_.heap s_.heap [] := va_S.rf
  have hl := lv_entry ([.ref X.1.1, .int a0, .int a1]) (n := 6) (Nat.le_of_ble_eq_true rfl)
  rw [lg_entry_eq]
  generalize (lg_sl ([.ref X.1.1, .int a0, .int a1]) ++ List.replicate (6 - (lg_sl ([.ref X.1.1, .int a0, .int a1])).length) Slot.unset).toArray = ls at hl ⊢
  have hl : lv_has ls 6 [(0, .ref X.1.1), (1, .int a0), (2, .int a1)] := hl
  unfold dX4_pileAt at hd
  refine lv_aload_n (pc := 0) hx hb dX4_pileAt_0 rfl (lv_at hl 0 rfl) ?_
  refine lv_iload_n (pc := 1) hx hb dX4_pileAt_1 rfl (lv_at hl 2 rfl) ?_
  obtain ⟨w1, hc2, hd⟩ := wt_bd_o hd
  refine kX4_alikeOf (pc := 2) hx hb hml hown hts hK hJ hW hS hc2 hl.1 (Nat.le_of_ble_eq_true rfl) ⟨Nat.le_of_ble_eq_true rfl, Nat.le_of_ble_eq_true rfl⟩ ⟨Nat.le_refl _, Nat.le_refl _⟩ dX4_pileAt_2 (fun H locs hW hS => ?_)
  refine lv_istore_n (pc := 5) (lv' := [(3, .int w1), (0, .ref X.1.1), (1, .int a0), (2, .int a1)]) hx hb dX4_pileAt_5 rfl hl (by decide) rfl (fun ls hl => ?_)
  refine lv_iconst (pc := 6) (v := 0) hx hb dX4_pileAt_6 (by decide) ?_
  refine lv_istore (pc := 7) (lv' := [(4, .int (0 : Int32)), (3, .int w1), (0, .ref X.1.1), (1, .int a0), (2, .int a1)]) hx hb dX4_pileAt_7 hl (by decide) rfl (fun ls hl => ?_)
  refine lv_iconst (pc := 9) (v := 0) hx hb dX4_pileAt_9 (by decide) ?_
  refine lv_istore (pc := 10) (lv' := [(5, .int (0 : Int32)), (4, .int (0 : Int32)), (3, .int w1), (0, .ref X.1.1), (1, .int a0), (2, .int a1)]) hx hb dX4_pileAt_10 hl (by decide) rfl (fun ls hl => ?_)
  obtain ⟨w4, hL5, hq6⟩ := wt_bd_o hd
  have hX7 : ∀ w4_ : Int32, w4_ = w4 → ∀ (H : Heap) (locs : List Loc) (ls : Array Slot), mW X σ H → va_S (mA lo hi) s_.heap H locs → lv_has ls 6 [(4, .int w4_)] → W p_ l e_ (headSpec (ws_ yX4_pileAt cX4_pileAt 6 (some .int)) ({ frames := 1, cells := 0, slots := 0, locals := 24 })).room s_ m_ ([.ref X.1.1, .int a0, .int a1] : List Value).toArray below_ meth_ c_ H locs 0 0 (MQ below_ (mQi X out_ σ (mA lo hi)) ([.ref X.1.1, .int a0, .int a1] : List Value).toArray s_ 0 0 (mA lo hi)) (F0 m_ 61 ls []) := by
    intro w4_ hw_
    have hd := hq6
    subst hw_
    clear hL5 hq6
    intro H locs ls hW hS hl
    refine lv_iload (pc := 61) hx hb dX4_pileAt_61 (lv_at hl 0 rfl) ?_
    refine lv_bipush (pc := 63) (v := 60) hx hb dX4_pileAt_63 (by decide) ?_
    obtain ⟨w22, hc23, hd⟩ := wt_bd_o hd
    refine kX4_less (pc := 65) hx hb hml hown hts hK hW hS hc23 hl.1 (Nat.le_of_ble_eq_true rfl) ⟨Nat.le_of_ble_eq_true rfl, Nat.le_of_ble_eq_true rfl⟩ ⟨Nat.le_refl _, Nat.le_refl _⟩ dX4_pileAt_65 (fun H locs hW hS => ?_)
    exact mr_iret hx hb hr rfl hlocks (Option.some.inj hd) rfl hW hK hS dX4_pileAt_68
  have hI12 : ∀ (k11 : Nat) (v3 : Int32 × Int32), wt_wh (bX4_pileAt_1 σ a0 w1) k11 v3 = some w4 → ∀ (H : Heap) (locs : List Loc) (ls : Array Slot), mW X σ H → va_S (mA lo hi) s_.heap H locs → lv_has ls 6 [(0, .ref X.1.1), (1, .int a0), (3, .int w1), (4, .int v3.1), (5, .int v3.2)] → W p_ l e_ (headSpec (ws_ yX4_pileAt cX4_pileAt 6 (some .int)) ({ frames := 1, cells := 0, slots := 0, locals := 24 })).room s_ m_ ([.ref X.1.1, .int a0, .int a1] : List Value).toArray below_ meth_ c_ H locs 0 0 (MQ below_ (mQi X out_ σ (mA lo hi)) ([.ref X.1.1, .int a0, .int a1] : List Value).toArray s_ 0 0 (mA lo hi)) (F0 m_ 12 ls []) := by
    intro k11
    induction k11 with
    | zero => intro v3 hd; exact absurd hd wt_wh_z
    | succ k11 ih9 =>
      intro v3 hd
      intro H locs ls hW hS hl
      obtain ⟨r10, hd, hk8⟩ := wt_wh_o hd
      unfold bX4_pileAt_1 at hd
      refine lv_iload (pc := 12) hx hb dX4_pileAt_12 (lv_at hl 4 rfl) ?_
      refine lv_bipush (pc := 14) (v := 10) hx hb dX4_pileAt_14 (by decide) ?_
      refine lv_icmp_ge (pc := 16) (tgt := 61) hx hb dX4_pileAt_16 (by decide) (fun c13 => ?_) (fun c13 => ?_)
      · have hd := wt_it hd c13
        exact hX7 v3.1 (wt_exit hd hk8) _ _ _ hW hS (lv_sub hl [3] rfl)
      · have hd := wt_if hd c13
        refine lv_iload (pc := 19) hx hb dX4_pileAt_19 (lv_at hl 3 rfl) ?_
        refine lv_iload_n (pc := 21) hx hb dX4_pileAt_21 rfl (lv_at hl 2 rfl) ?_
        refine lv_iload (pc := 22) hx hb dX4_pileAt_22 (lv_at hl 4 rfl) ?_
        refine lv_ishr (pc := 24) hx hb dX4_pileAt_24 ?_
        refine lv_iconst (pc := 25) (v := 1) hx hb dX4_pileAt_25 (by decide) ?_
        refine lv_iand (pc := 26) hx hb dX4_pileAt_26 ?_
        refine lv_iconst (pc := 27) (v := 1) hx hb dX4_pileAt_27 (by decide) ?_
        refine lv_icmp_ne (pc := 28) (tgt := 51) hx hb dX4_pileAt_28 (by decide) (fun c14 => ?_) (fun c14 => ?_)
        · have hd := wt_if hd c14
          refine lv_iconst (pc := 51) (v := 0) hx hb dX4_pileAt_51 (by decide) ?_
          refine lv_iadd (pc := 52) hx hb dX4_pileAt_52 ?_
          obtain ⟨n15, en15, hd⟩ := wt_lt_o hd
          refine lv_tope en15 ?_
          refine lv_istore (pc := 53) (lv' := [(4, .int n15), (0, .ref X.1.1), (1, .int a0), (3, .int w1), (5, .int v3.2)]) hx hb dX4_pileAt_53 hl (by decide) rfl (fun ls hl => ?_)
          obtain ⟨n16, en16, hd⟩ := wt_lt_o hd
          refine lv_iinc (pc := 55) (k := 4) (v := n16) (lv' := [(5, .int n16), (4, .int n15), (0, .ref X.1.1), (1, .int a0), (3, .int w1)]) hx hb dX4_pileAt_55 hl rfl en16.symm (by decide) rfl (fun ls hl => ?_)
          refine lv_goto (pc := 58) (tgt := 12) hx hb dX4_pileAt_58 (by decide) ?_
          exact ih9 _ (wt_again hd hk8) _ _ _ hW hS (lv_sub hl [2, 3, 4, 1, 0] rfl)
        · have hd := wt_it hd c14
          refine lv_aload_n (pc := 31) hx hb dX4_pileAt_31 rfl (lv_at hl 0 rfl) ?_
          refine mr_get (pc := 32) (k := 39) (v := .ref (X.1.2.1 39)) hx hb hts hown hK hW (by decide) rfl q1568 dX4_pileAt_32 ?_
          refine lv_iload_n (pc := 35) hx hb dX4_pileAt_35 rfl (lv_at hl 1 rfl) ?_
          obtain ⟨h17, hd⟩ := wt_ck_o hd
          refine mr_row (pc := 36) (k := 39) hx hb hK hW rfl h17 dX4_pileAt_36 ?_
          refine lv_iload (pc := 37) hx hb dX4_pileAt_37 (lv_at hl 4 rfl) ?_
          obtain ⟨h18, hd⟩ := wt_ck_o hd
          refine mr_gld (pc := 39) (k := 39) (i := (a0.toNatClampNeg)) hx hb hK hW (vp_lt h17) rfl h18 dX4_pileAt_39 ?_
          refine lv_aload_n (pc := 40) hx hb dX4_pileAt_40 rfl (lv_at hl 0 rfl) ?_
          refine mr_get (pc := 41) (k := 14) (v := .ref (X.1.2.1 14)) hx hb hts hown hK hW (by decide) rfl q1543 dX4_pileAt_41 ?_
          refine lv_iload (pc := 44) hx hb dX4_pileAt_44 (lv_at hl 4 rfl) ?_
          obtain ⟨h19, hd⟩ := wt_ck_o hd
          refine mr_ald (pc := 46) (k := 14) hx hb hK hW rfl h19 dX4_pileAt_46 ?_
          refine lv_iadd (pc := 47) hx hb dX4_pileAt_47 ?_
          refine lv_goto (pc := 48) (tgt := 52) hx hb dX4_pileAt_48 (by decide) ?_
          refine lv_iadd (pc := 52) hx hb dX4_pileAt_52 ?_
          obtain ⟨n20, en20, hd⟩ := wt_lt_o hd
          refine lv_tope en20 ?_
          refine lv_istore (pc := 53) (lv' := [(4, .int n20), (0, .ref X.1.1), (1, .int a0), (3, .int w1), (5, .int v3.2)]) hx hb dX4_pileAt_53 hl (by decide) rfl (fun ls hl => ?_)
          obtain ⟨n21, en21, hd⟩ := wt_lt_o hd
          refine lv_iinc (pc := 55) (k := 4) (v := n21) (lv' := [(5, .int n21), (4, .int n20), (0, .ref X.1.1), (1, .int a0), (3, .int w1)]) hx hb dX4_pileAt_55 hl rfl en21.symm (by decide) rfl (fun ls hl => ?_)
          refine lv_goto (pc := 58) (tgt := 12) hx hb dX4_pileAt_58 (by decide) ?_
          exact ih9 _ (wt_again hd hk8) _ _ _ hW hS (lv_sub hl [2, 3, 4, 1, 0] rfl)
  obtain ⟨k11, hL5⟩ := wt_whC_o hL5
  exact hI12 k11 _ hL5 _ _ _ hW hS (lv_sub hl [3, 4, 2, 1, 0] rfl)
theorem kX4_pileAt {p : Program} {l : Launch} {e : Env} {R : Room} {s : State} {m : MethodId} {args : Array Value} {below : List Frame} {meth : Method} {c : Code} {H : Heap} {locs : List Loc} {cells slots : Nat} {Q : State → Prop} {cc : ByteArray} {pc : Nat} {ls : Array Slot} {rest : List Value} {H0 : Heap} {nL : Nat} {X : MPar} {lo hi : Nat} {σ : MSt} {a0 : Int32} {a1 : Int32} {out_ : Int32} (hx : p.tables.exec = Jvm.exec) (hb : c.code = cc) (hml : c.maxLocals = nL) (hown : s.vm.findClass RX4 = some m.cls) (hts : ∀ w ∈ lw_all, w.before args s = true) (hK : mK X s) (hJ : mJ X lo hi) (hW : mW X σ H) (hS : va_S (mA lo hi) H0 H locs) (hd : dX4_pileAt σ a0 a1 = some out_) (hsz : ls.size = nL) (hrm : (rest.map fun v => v.category).sum ≤ 8) (hR : 2 ≤ R.frames ∧ 49 ≤ R.locals) (hcs : cells ≤ R.cells ∧ slots ≤ R.slots) (hdg : decode cc pc = .ok (.invokevirtual 244, 3)) (kk : ∀ (H1 : Heap) (locs1 : List Loc), mW X σ H1 → va_S (mA lo hi) H0 H1 locs1 → W p l e R s m args below meth c H1 locs1 cells slots Q (F0 m (pc + 3) ls (.int out_ :: rest))) : W p l e R s m args below meth c H locs cells slots Q (F0 m pc ls (.int a1 :: .int a0 :: .ref X.1.1 :: rest)) := by
  refine va_calli (va_runV (As := [.int a0, .int a1]) (rest := rest) ⟨hx, hb, hml, hown, hts⟩ (wX4_pileAt l hJ hd) (cwV 2 hts (lw_V q1824 q1826 qs47 q88 q1827) rfl rfl rfl (by decide +kernel) hR) (mr_pre hK hW) rfl rfl hsz rfl (lv_room hrm) hdg hcs) hS (fun _ _ h => h) (fun _ h => h) (fun r u t H1 locs1 ht hvm hp hB hz hk hS1 => ?_)
  have hp : r = out_ := hp
  subst hp
  have hW1 : mW X σ t.heap := hB.1
  rw [ht] at hW1
  exact kk H1 locs1 hW1 hS1
noncomputable def dX4_pile (σ : MSt) (a0 : Int32) (a1 : Int32) (a2 : Int32) (a3 : Int32) : Option (Int32 × MSt) :=
  wt_lt (m_sF σ 0 (0 : Int32)) fun σ1 => wt_bd (dX4_isStory σ1 a0) fun w2 => wt_bd (if w2 = 0 then (some (1 : Int32)) else (some (0 : Int32))) fun w4 => wt_bd (dX4_bad σ1 w4 (1 : Int32)) fun w9 => if w9.1 = 0 then (wt_bd (dX4_badPlace w9.2 a1 a2 a3 (2 : Int32)) fun w12 => if w12.1 = 0 then (wt_bd (dX4_runs w12.2 a0 a3) fun w15 => wt_bd (dX4_pileAt w15 a1 a2) fun w17 => some (w17, w15)) else (some ((0 : Int32), w12.2))) else (some ((0 : Int32), w9.2))
set_option maxHeartbeats 4000000 in
theorem wX4_pile (l : Launch) {X : MPar} {lo hi : Nat} (hJ : mJ X lo hi) {σ : MSt} {a0 : Int32} {a1 : Int32} {a2 : Int32} {a3 : Int32} {out_ : Int32 × MSt} (hd : dX4_pile σ a0 a1 a2 a3 = some out_) : Met l yX4_pile (ws_ yX4_pile cX4_pile 5 (some .int)) ({ frames := 4, cells := 0, slots := 0, locals := 98 }) (mP X σ [.ref X.1.1, .int a0, .int a1, .int a2, .int a3]) (mQi X out_.1 out_.2 (mA lo hi)) 0 0 (mA lo hi) := by
  refine Met.ofW (cc := cX4_pile) (maxL := 5) (ret := (some .int)) (by decide) rfl ?_
  intro p_ e_ s_ m_ args_ below_ meth_ c_ s₁_ B hml hv
  obtain ⟨rfl, hW, hK⟩ := hv
  have hx := B.exec
  have hb := B.bytes
  have hr := B.returns
  have hts := atoms_spec (ws := (ws_ yX4_pile cX4_pile 5 (some .int))) B.pre
  have hts : ∀ w ∈ lw_all, w.before _ s_ = true := fun w h => hts w (List.mem_cons_of_mem _ h)
  have hown : s_.vm.findClass RX4 = some m_.cls := findClass_of_methodNamed B.named
  have hlocks := B.notSynchronized
  have hS : va_S (mA lo hi) s_.heap s_.heap [] := va_S.rf
  have hl := lv_entry ([.ref X.1.1, .int a0, .int a1, .int a2, .int a3]) (n := 5) (Nat.le_of_ble_eq_true rfl)
  rw [lg_entry_eq]
  generalize (lg_sl ([.ref X.1.1, .int a0, .int a1, .int a2, .int a3]) ++ List.replicate (5 - (lg_sl ([.ref X.1.1, .int a0, .int a1, .int a2, .int a3])).length) Slot.unset).toArray = ls at hl ⊢
  have hl : lv_has ls 5 [(0, .ref X.1.1), (1, .int a0), (2, .int a1), (3, .int a2), (4, .int a3)] := hl
  unfold dX4_pile at hd
  refine lv_aload_n (pc := 0) hx hb dX4_pile_0 rfl (lv_at hl 0 rfl) ?_
  refine lv_iconst (pc := 1) (v := 0) hx hb dX4_pile_1 (by decide) ?_
  obtain ⟨σ1, eσ1, hd⟩ := wt_lt_o hd
  refine mr_put (pc := 2) (k := 0) hx hb hts hown hK hW hJ hS (by decide) rfl eσ1 q1529 dX4_pile_2 (fun H locs hW hS => ?_)
  refine lv_aload_n (pc := 5) hx hb dX4_pile_5 rfl (lv_at hl 0 rfl) ?_
  refine lv_aload_n (pc := 6) hx hb dX4_pile_6 rfl (lv_at hl 0 rfl) ?_
  refine lv_iload_n (pc := 7) hx hb dX4_pile_7 rfl (lv_at hl 1 rfl) ?_
  obtain ⟨w2, hc3, hd⟩ := wt_bd_o hd
  refine kX4_isStory (pc := 8) hx hb hml hown hts hK hJ hW hS hc3 hl.1 (Nat.le_of_ble_eq_true rfl) ⟨Nat.le_of_ble_eq_true rfl, Nat.le_of_ble_eq_true rfl⟩ ⟨Nat.le_refl _, Nat.le_refl _⟩ dX4_pile_8 (fun H locs hW hS => ?_)
  obtain ⟨w4, hj5, hq6⟩ := wt_bd_o hd
  have hX7 : ∀ w4_ : Int32, w4_ = w4 → ∀ (H : Heap) (locs : List Loc) (ls : Array Slot), mW X σ1 H → va_S (mA lo hi) s_.heap H locs → lv_has ls 5 [(0, .ref X.1.1), (1, .int a0), (2, .int a1), (3, .int a2), (4, .int a3)] → W p_ l e_ (headSpec (ws_ yX4_pile cX4_pile 5 (some .int)) ({ frames := 4, cells := 0, slots := 0, locals := 98 })).room s_ m_ ([.ref X.1.1, .int a0, .int a1, .int a2, .int a3] : List Value).toArray below_ meth_ c_ H locs 0 0 (MQ below_ (mQi X out_.1 out_.2 (mA lo hi)) ([.ref X.1.1, .int a0, .int a1, .int a2, .int a3] : List Value).toArray s_ 0 0 (mA lo hi)) (F0 m_ 19 ls [.int w4_, .ref X.1.1]) := by
    intro w4_ hw_
    have hd := hq6
    subst hw_
    clear hj5 hq6
    intro H locs ls hW hS hl
    refine lv_iconst (pc := 19) (v := 1) hx hb dX4_pile_19 (by decide) ?_
    obtain ⟨w9, hc10, hd⟩ := wt_bd_o hd
    refine kX4_bad (pc := 20) hx hb hml hown hts hK hJ hW hS hc10 hl.1 (Nat.le_of_ble_eq_true rfl) ⟨Nat.le_of_ble_eq_true rfl, Nat.le_of_ble_eq_true rfl⟩ ⟨Nat.le_refl _, Nat.le_refl _⟩ dX4_pile_20 (fun H locs hW hS => ?_)
    refine lv_if_ne (pc := 23) (tgt := 38) hx hb dX4_pile_23 (by decide) (fun c11 => ?_) (fun c11 => ?_)
    · have hd := wt_if hd c11
      refine lv_iconst (pc := 38) (v := 0) hx hb dX4_pile_38 (by decide) ?_
      exact mr_iret hx hb hr rfl hlocks (wt_p1 hd) (wt_p2 hd) hW hK hS dX4_pile_39
    · have hd := wt_it hd c11
      refine lv_aload_n (pc := 26) hx hb dX4_pile_26 rfl (lv_at hl 0 rfl) ?_
      refine lv_iload_n (pc := 27) hx hb dX4_pile_27 rfl (lv_at hl 2 rfl) ?_
      refine lv_iload_n (pc := 28) hx hb dX4_pile_28 rfl (lv_at hl 3 rfl) ?_
      refine lv_iload (pc := 29) hx hb dX4_pile_29 (lv_at hl 4 rfl) ?_
      refine lv_iconst (pc := 31) (v := 2) hx hb dX4_pile_31 (by decide) ?_
      obtain ⟨w12, hc13, hd⟩ := wt_bd_o hd
      refine kX4_badPlace (pc := 32) hx hb hml hown hts hK hJ hW hS hc13 hl.1 (Nat.le_of_ble_eq_true rfl) ⟨Nat.le_of_ble_eq_true rfl, Nat.le_of_ble_eq_true rfl⟩ ⟨Nat.le_refl _, Nat.le_refl _⟩ dX4_pile_32 (fun H locs hW hS => ?_)
      refine lv_if_eq (pc := 35) (tgt := 40) hx hb dX4_pile_35 (by decide) (fun c14 => ?_) (fun c14 => ?_)
      · have hd := wt_it hd c14
        refine lv_aload_n (pc := 40) hx hb dX4_pile_40 rfl (lv_at hl 0 rfl) ?_
        refine lv_iload_n (pc := 41) hx hb dX4_pile_41 rfl (lv_at hl 1 rfl) ?_
        refine lv_iload (pc := 42) hx hb dX4_pile_42 (lv_at hl 4 rfl) ?_
        obtain ⟨w15, hc16, hd⟩ := wt_bd_o hd
        refine kX4_runs (pc := 44) hx hb hml hown hts hK hJ hW hS hc16 hl.1 (Nat.le_of_ble_eq_true rfl) ⟨Nat.le_of_ble_eq_true rfl, Nat.le_of_ble_eq_true rfl⟩ ⟨Nat.le_refl _, Nat.le_refl _⟩ dX4_pile_44 (fun H locs hW hS => ?_)
        refine lv_aload_n (pc := 47) hx hb dX4_pile_47 rfl (lv_at hl 0 rfl) ?_
        refine lv_iload_n (pc := 48) hx hb dX4_pile_48 rfl (lv_at hl 2 rfl) ?_
        refine lv_iload_n (pc := 49) hx hb dX4_pile_49 rfl (lv_at hl 3 rfl) ?_
        obtain ⟨w17, hc18, hd⟩ := wt_bd_o hd
        refine kX4_pileAt (pc := 50) hx hb hml hown hts hK hJ hW hS hc18 hl.1 (Nat.le_of_ble_eq_true rfl) ⟨Nat.le_of_ble_eq_true rfl, Nat.le_of_ble_eq_true rfl⟩ ⟨Nat.le_refl _, Nat.le_refl _⟩ dX4_pile_50 (fun H locs hW hS => ?_)
        exact mr_iret hx hb hr rfl hlocks (wt_p1 hd) (wt_p2 hd) hW hK hS dX4_pile_53
      · have hd := wt_if hd c14
        refine lv_iconst (pc := 38) (v := 0) hx hb dX4_pile_38 (by decide) ?_
        exact mr_iret hx hb hr rfl hlocks (wt_p1 hd) (wt_p2 hd) hW hK hS dX4_pile_39
  have hd := hj5
  refine lv_if_ne (pc := 11) (tgt := 18) hx hb dX4_pile_11 (by decide) (fun c8 => ?_) (fun c8 => ?_)
  · have hd := wt_if hd c8
    refine lv_iconst (pc := 18) (v := 0) hx hb dX4_pile_18 (by decide) ?_
    exact hX7 (0 : Int32) (Option.some.inj hd) _ _ _ hW hS hl
  · have hd := wt_it hd c8
    refine lv_iconst (pc := 14) (v := 1) hx hb dX4_pile_14 (by decide) ?_
    refine lv_goto (pc := 15) (tgt := 19) hx hb dX4_pile_15 (by decide) ?_
    exact hX7 (1 : Int32) (Option.some.inj hd) _ _ _ hW hS hl
noncomputable def dX4_wears (σ : MSt) (a0 : Int32) (a1 : Int32) (a2 : Int32) : Option (Int32 × MSt) :=
  wt_lt (m_sF σ 0 (0 : Int32)) fun σ1 => wt_bd (dX4_isStory σ1 a0) fun w2 => wt_bd (if w2 = 0 then (some (1 : Int32)) else (some (0 : Int32))) fun w4 => wt_bd (dX4_bad σ1 w4 (1 : Int32)) fun w9 => if w9.1 = 0 then (wt_bd (dX4_badPlace w9.2 a1 (0 : Int32) a2 (2 : Int32)) fun w12 => if w12.1 = 0 then (wt_bd (dX4_runs w12.2 a0 a2) fun w15 => wt_ck (vp_in a1 10) <| some ((w15.2.1 40 a1.toNatClampNeg), w15)) else (some ((0 : Int32), w12.2))) else (some ((0 : Int32), w9.2))
set_option maxHeartbeats 4000000 in
theorem wX4_wears (l : Launch) {X : MPar} {lo hi : Nat} (hJ : mJ X lo hi) {σ : MSt} {a0 : Int32} {a1 : Int32} {a2 : Int32} {out_ : Int32 × MSt} (hd : dX4_wears σ a0 a1 a2 = some out_) : Met l yX4_wears (ws_ yX4_wears cX4_wears 4 (some .int)) ({ frames := 4, cells := 0, slots := 0, locals := 98 }) (mP X σ [.ref X.1.1, .int a0, .int a1, .int a2]) (mQi X out_.1 out_.2 (mA lo hi)) 0 0 (mA lo hi) := by
  refine Met.ofW (cc := cX4_wears) (maxL := 4) (ret := (some .int)) (by decide) rfl ?_
  intro p_ e_ s_ m_ args_ below_ meth_ c_ s₁_ B hml hv
  obtain ⟨rfl, hW, hK⟩ := hv
  have hx := B.exec
  have hb := B.bytes
  have hr := B.returns
  have hts := atoms_spec (ws := (ws_ yX4_wears cX4_wears 4 (some .int))) B.pre
  have hts : ∀ w ∈ lw_all, w.before _ s_ = true := fun w h => hts w (List.mem_cons_of_mem _ h)
  have hown : s_.vm.findClass RX4 = some m_.cls := findClass_of_methodNamed B.named
  have hlocks := B.notSynchronized
  have hS : va_S (mA lo hi) s_.heap s_.heap [] := va_S.rf
  have hl := lv_entry ([.ref X.1.1, .int a0, .int a1, .int a2]) (n := 4) (Nat.le_of_ble_eq_true rfl)
  rw [lg_entry_eq]
  generalize (lg_sl ([.ref X.1.1, .int a0, .int a1, .int a2]) ++ List.replicate (4 - (lg_sl ([.ref X.1.1, .int a0, .int a1, .int a2])).length) Slot.unset).toArray = ls at hl ⊢
  have hl : lv_has ls 4 [(0, .ref X.1.1), (1, .int a0), (2, .int a1), (3, .int a2)] := hl
  unfold dX4_wears at hd
  refine lv_aload_n (pc := 0) hx hb dX4_wears_0 rfl (lv_at hl 0 rfl) ?_
  refine lv_iconst (pc := 1) (v := 0) hx hb dX4_wears_1 (by decide) ?_
  obtain ⟨σ1, eσ1, hd⟩ := wt_lt_o hd
  refine mr_put (pc := 2) (k := 0) hx hb hts hown hK hW hJ hS (by decide) rfl eσ1 q1529 dX4_wears_2 (fun H locs hW hS => ?_)
  refine lv_aload_n (pc := 5) hx hb dX4_wears_5 rfl (lv_at hl 0 rfl) ?_
  refine lv_aload_n (pc := 6) hx hb dX4_wears_6 rfl (lv_at hl 0 rfl) ?_
  refine lv_iload_n (pc := 7) hx hb dX4_wears_7 rfl (lv_at hl 1 rfl) ?_
  obtain ⟨w2, hc3, hd⟩ := wt_bd_o hd
  refine kX4_isStory (pc := 8) hx hb hml hown hts hK hJ hW hS hc3 hl.1 (Nat.le_of_ble_eq_true rfl) ⟨Nat.le_of_ble_eq_true rfl, Nat.le_of_ble_eq_true rfl⟩ ⟨Nat.le_refl _, Nat.le_refl _⟩ dX4_wears_8 (fun H locs hW hS => ?_)
  obtain ⟨w4, hj5, hq6⟩ := wt_bd_o hd
  have hX7 : ∀ w4_ : Int32, w4_ = w4 → ∀ (H : Heap) (locs : List Loc) (ls : Array Slot), mW X σ1 H → va_S (mA lo hi) s_.heap H locs → lv_has ls 4 [(0, .ref X.1.1), (1, .int a0), (2, .int a1), (3, .int a2)] → W p_ l e_ (headSpec (ws_ yX4_wears cX4_wears 4 (some .int)) ({ frames := 4, cells := 0, slots := 0, locals := 98 })).room s_ m_ ([.ref X.1.1, .int a0, .int a1, .int a2] : List Value).toArray below_ meth_ c_ H locs 0 0 (MQ below_ (mQi X out_.1 out_.2 (mA lo hi)) ([.ref X.1.1, .int a0, .int a1, .int a2] : List Value).toArray s_ 0 0 (mA lo hi)) (F0 m_ 19 ls [.int w4_, .ref X.1.1]) := by
    intro w4_ hw_
    have hd := hq6
    subst hw_
    clear hj5 hq6
    intro H locs ls hW hS hl
    refine lv_iconst (pc := 19) (v := 1) hx hb dX4_wears_19 (by decide) ?_
    obtain ⟨w9, hc10, hd⟩ := wt_bd_o hd
    refine kX4_bad (pc := 20) hx hb hml hown hts hK hJ hW hS hc10 hl.1 (Nat.le_of_ble_eq_true rfl) ⟨Nat.le_of_ble_eq_true rfl, Nat.le_of_ble_eq_true rfl⟩ ⟨Nat.le_refl _, Nat.le_refl _⟩ dX4_wears_20 (fun H locs hW hS => ?_)
    refine lv_if_ne (pc := 23) (tgt := 37) hx hb dX4_wears_23 (by decide) (fun c11 => ?_) (fun c11 => ?_)
    · have hd := wt_if hd c11
      refine lv_iconst (pc := 37) (v := 0) hx hb dX4_wears_37 (by decide) ?_
      exact mr_iret hx hb hr rfl hlocks (wt_p1 hd) (wt_p2 hd) hW hK hS dX4_wears_38
    · have hd := wt_it hd c11
      refine lv_aload_n (pc := 26) hx hb dX4_wears_26 rfl (lv_at hl 0 rfl) ?_
      refine lv_iload_n (pc := 27) hx hb dX4_wears_27 rfl (lv_at hl 2 rfl) ?_
      refine lv_iconst (pc := 28) (v := 0) hx hb dX4_wears_28 (by decide) ?_
      refine lv_iload_n (pc := 29) hx hb dX4_wears_29 rfl (lv_at hl 3 rfl) ?_
      refine lv_iconst (pc := 30) (v := 2) hx hb dX4_wears_30 (by decide) ?_
      obtain ⟨w12, hc13, hd⟩ := wt_bd_o hd
      refine kX4_badPlace (pc := 31) hx hb hml hown hts hK hJ hW hS hc13 hl.1 (Nat.le_of_ble_eq_true rfl) ⟨Nat.le_of_ble_eq_true rfl, Nat.le_of_ble_eq_true rfl⟩ ⟨Nat.le_refl _, Nat.le_refl _⟩ dX4_wears_31 (fun H locs hW hS => ?_)
      refine lv_if_eq (pc := 34) (tgt := 39) hx hb dX4_wears_34 (by decide) (fun c14 => ?_) (fun c14 => ?_)
      · have hd := wt_it hd c14
        refine lv_aload_n (pc := 39) hx hb dX4_wears_39 rfl (lv_at hl 0 rfl) ?_
        refine lv_iload_n (pc := 40) hx hb dX4_wears_40 rfl (lv_at hl 1 rfl) ?_
        refine lv_iload_n (pc := 41) hx hb dX4_wears_41 rfl (lv_at hl 3 rfl) ?_
        obtain ⟨w15, hc16, hd⟩ := wt_bd_o hd
        refine kX4_runs (pc := 42) hx hb hml hown hts hK hJ hW hS hc16 hl.1 (Nat.le_of_ble_eq_true rfl) ⟨Nat.le_of_ble_eq_true rfl, Nat.le_of_ble_eq_true rfl⟩ ⟨Nat.le_refl _, Nat.le_refl _⟩ dX4_wears_42 (fun H locs hW hS => ?_)
        refine lv_aload_n (pc := 45) hx hb dX4_wears_45 rfl (lv_at hl 0 rfl) ?_
        refine mr_get (pc := 46) (k := 40) (v := .ref (X.1.2.1 40)) hx hb hts hown hK hW (by decide) rfl q1569 dX4_wears_46 ?_
        refine lv_iload_n (pc := 49) hx hb dX4_wears_49 rfl (lv_at hl 2 rfl) ?_
        obtain ⟨h17, hd⟩ := wt_ck_o hd
        refine mr_ald (pc := 50) (k := 40) hx hb hK hW rfl h17 dX4_wears_50 ?_
        exact mr_iret hx hb hr rfl hlocks (wt_p1 hd) (wt_p2 hd) hW hK hS dX4_wears_51
      · have hd := wt_if hd c14
        refine lv_iconst (pc := 37) (v := 0) hx hb dX4_wears_37 (by decide) ?_
        exact mr_iret hx hb hr rfl hlocks (wt_p1 hd) (wt_p2 hd) hW hK hS dX4_wears_38
  have hd := hj5
  refine lv_if_ne (pc := 11) (tgt := 18) hx hb dX4_wears_11 (by decide) (fun c8 => ?_) (fun c8 => ?_)
  · have hd := wt_if hd c8
    refine lv_iconst (pc := 18) (v := 0) hx hb dX4_wears_18 (by decide) ?_
    exact hX7 (0 : Int32) (Option.some.inj hd) _ _ _ hW hS hl
  · have hd := wt_it hd c8
    refine lv_iconst (pc := 14) (v := 1) hx hb dX4_wears_14 (by decide) ?_
    refine lv_goto (pc := 15) (tgt := 19) hx hb dX4_wears_15 (by decide) ?_
    exact hX7 (1 : Int32) (Option.some.inj hd) _ _ _ hW hS hl
noncomputable def dX4_find (σ : MSt) (a0 : Int32) (a1 : Int32) (a2 : Int32) (a3 : Int32) : Option (Int32 × MSt) :=
  wt_lt (m_sF σ 0 (0 : Int32)) fun σ1 => wt_bd (dX4_badPlace σ1 a0 a2 a1 (1 : Int32)) fun w2 => if w2.1 = 0 then (wt_bd (dX4_in a3 (0 : Int32) (60 : Int32)) fun w5 => wt_bd (if w5 = 0 then (some (1 : Int32)) else (some (0 : Int32))) fun w7 => wt_bd (dX4_bad w2.2 w7 (1 : Int32)) fun w12 => if w12.1 = 0 then (if (w12.2.1 28) = (8 : Int32) then (some ((-1 : Int32), w12.2)) else (wt_ck (vp_in (w12.2.1 28) 8) <| wt_ck (vp_in (0 : Int32) 4) <| wt_lt (m_sG w12.2 32 (((w12.2.1 28)).toNatClampNeg) (0 : Int32).toNatClampNeg a0) fun σ18 => wt_ck (vp_in (σ18.1 28) 8) <| wt_ck (vp_in (1 : Int32) 4) <| wt_lt (m_sG σ18 32 (((σ18.1 28)).toNatClampNeg) (1 : Int32).toNatClampNeg a1) fun σ21 => wt_ck (vp_in (σ21.1 28) 8) <| wt_ck (vp_in (2 : Int32) 4) <| wt_lt (m_sG σ21 32 (((σ21.1 28)).toNatClampNeg) (2 : Int32).toNatClampNeg a2) fun σ24 => wt_ck (vp_in (σ24.1 28) 8) <| wt_ck (vp_in (3 : Int32) 4) <| wt_lt (m_sG σ24 32 (((σ24.1 28)).toNatClampNeg) (3 : Int32).toNatClampNeg a3) fun σ27 => wt_lt (m_sF σ27 28 ((σ27.1 28) + (1 : Int32))) fun σ28 => some (((σ28.1 28) - (1 : Int32)), σ28))) else (some ((0 : Int32), w12.2))) else (some ((0 : Int32), w2.2))
set_option maxHeartbeats 4000000 in
theorem wX4_find (l : Launch) {X : MPar} {lo hi : Nat} (hJ : mJ X lo hi) {σ : MSt} {a0 : Int32} {a1 : Int32} {a2 : Int32} {a3 : Int32} {out_ : Int32 × MSt} (hd : dX4_find σ a0 a1 a2 a3 = some out_) : Met l yX4_find (ws_ yX4_find cX4_find 5 (some .int)) ({ frames := 2, cells := 0, slots := 0, locals := 46 }) (mP X σ [.ref X.1.1, .int a0, .int a1, .int a2, .int a3]) (mQi X out_.1 out_.2 (mA lo hi)) 0 0 (mA lo hi) := by
  refine Met.ofW (cc := cX4_find) (maxL := 5) (ret := (some .int)) (by decide) rfl ?_
  intro p_ e_ s_ m_ args_ below_ meth_ c_ s₁_ B hml hv
  obtain ⟨rfl, hW, hK⟩ := hv
  have hx := B.exec
  have hb := B.bytes
  have hr := B.returns
  have hts := atoms_spec (ws := (ws_ yX4_find cX4_find 5 (some .int))) B.pre
  have hts : ∀ w ∈ lw_all, w.before _ s_ = true := fun w h => hts w (List.mem_cons_of_mem _ h)
  have hown : s_.vm.findClass RX4 = some m_.cls := findClass_of_methodNamed B.named
  have hlocks := B.notSynchronized
  have hS : va_S (mA lo hi) s_.heap s_.heap [] := va_S.rf
  have hl := lv_entry ([.ref X.1.1, .int a0, .int a1, .int a2, .int a3]) (n := 5) (Nat.le_of_ble_eq_true rfl)
  rw [lg_entry_eq]
  generalize (lg_sl ([.ref X.1.1, .int a0, .int a1, .int a2, .int a3]) ++ List.replicate (5 - (lg_sl ([.ref X.1.1, .int a0, .int a1, .int a2, .int a3])).length) Slot.unset).toArray = ls at hl ⊢
  have hl : lv_has ls 5 [(0, .ref X.1.1), (1, .int a0), (2, .int a1), (3, .int a2), (4, .int a3)] := hl
  unfold dX4_find at hd
  refine lv_aload_n (pc := 0) hx hb dX4_find_0 rfl (lv_at hl 0 rfl) ?_
  refine lv_iconst (pc := 1) (v := 0) hx hb dX4_find_1 (by decide) ?_
  obtain ⟨σ1, eσ1, hd⟩ := wt_lt_o hd
  refine mr_put (pc := 2) (k := 0) hx hb hts hown hK hW hJ hS (by decide) rfl eσ1 q1529 dX4_find_2 (fun H locs hW hS => ?_)
  refine lv_aload_n (pc := 5) hx hb dX4_find_5 rfl (lv_at hl 0 rfl) ?_
  refine lv_iload_n (pc := 6) hx hb dX4_find_6 rfl (lv_at hl 1 rfl) ?_
  refine lv_iload_n (pc := 7) hx hb dX4_find_7 rfl (lv_at hl 3 rfl) ?_
  refine lv_iload_n (pc := 8) hx hb dX4_find_8 rfl (lv_at hl 2 rfl) ?_
  refine lv_iconst (pc := 9) (v := 1) hx hb dX4_find_9 (by decide) ?_
  obtain ⟨w2, hc3, hd⟩ := wt_bd_o hd
  refine kX4_badPlace (pc := 10) hx hb hml hown hts hK hJ hW hS hc3 hl.1 (Nat.le_of_ble_eq_true rfl) ⟨Nat.le_of_ble_eq_true rfl, Nat.le_of_ble_eq_true rfl⟩ ⟨Nat.le_refl _, Nat.le_refl _⟩ dX4_find_10 (fun H locs hW hS => ?_)
  refine lv_if_ne (pc := 13) (tgt := 40) hx hb dX4_find_13 (by decide) (fun c4 => ?_) (fun c4 => ?_)
  · have hd := wt_if hd c4
    refine lv_iconst (pc := 40) (v := 0) hx hb dX4_find_40 (by decide) ?_
    exact mr_iret hx hb hr rfl hlocks (wt_p1 hd) (wt_p2 hd) hW hK hS dX4_find_41
  · have hd := wt_it hd c4
    refine lv_aload_n (pc := 16) hx hb dX4_find_16 rfl (lv_at hl 0 rfl) ?_
    refine lv_iload (pc := 17) hx hb dX4_find_17 (lv_at hl 4 rfl) ?_
    refine lv_iconst (pc := 19) (v := 0) hx hb dX4_find_19 (by decide) ?_
    refine lv_bipush (pc := 20) (v := 60) hx hb dX4_find_20 (by decide) ?_
    obtain ⟨w5, hc6, hd⟩ := wt_bd_o hd
    refine kX4_in (pc := 22) hx hb hml hown hts hK hW hS hc6 hl.1 (Nat.le_of_ble_eq_true rfl) ⟨Nat.le_of_ble_eq_true rfl, Nat.le_of_ble_eq_true rfl⟩ ⟨Nat.le_refl _, Nat.le_refl _⟩ dX4_find_22 (fun H locs hW hS => ?_)
    obtain ⟨w7, hj8, hq9⟩ := wt_bd_o hd
    have hX10 : ∀ w7_ : Int32, w7_ = w7 → ∀ (H : Heap) (locs : List Loc) (ls : Array Slot), mW X w2.2 H → va_S (mA lo hi) s_.heap H locs → lv_has ls 5 [(0, .ref X.1.1), (1, .int a0), (2, .int a1), (3, .int a2), (4, .int a3)] → W p_ l e_ (headSpec (ws_ yX4_find cX4_find 5 (some .int)) ({ frames := 2, cells := 0, slots := 0, locals := 46 })).room s_ m_ ([.ref X.1.1, .int a0, .int a1, .int a2, .int a3] : List Value).toArray below_ meth_ c_ H locs 0 0 (MQ below_ (mQi X out_.1 out_.2 (mA lo hi)) ([.ref X.1.1, .int a0, .int a1, .int a2, .int a3] : List Value).toArray s_ 0 0 (mA lo hi)) (F0 m_ 33 ls [.int w7_, .ref X.1.1]) := by
      intro w7_ hw_
      have hd := hq9
      subst hw_
      clear hj8 hq9
      intro H locs ls hW hS hl
      refine lv_iconst (pc := 33) (v := 1) hx hb dX4_find_33 (by decide) ?_
      obtain ⟨w12, hc13, hd⟩ := wt_bd_o hd
      refine kX4_bad (pc := 34) hx hb hml hown hts hK hJ hW hS hc13 hl.1 (Nat.le_of_ble_eq_true rfl) ⟨Nat.le_of_ble_eq_true rfl, Nat.le_of_ble_eq_true rfl⟩ ⟨Nat.le_refl _, Nat.le_refl _⟩ dX4_find_34 (fun H locs hW hS => ?_)
      refine lv_if_eq (pc := 37) (tgt := 42) hx hb dX4_find_37 (by decide) (fun c14 => ?_) (fun c14 => ?_)
      · have hd := wt_it hd c14
        refine lv_aload_n (pc := 42) hx hb dX4_find_42 rfl (lv_at hl 0 rfl) ?_
        refine mr_get (pc := 43) (k := 28) (v := .int ((w12.2.1 28))) hx hb hts hown hK hW (by decide) rfl q1557 dX4_find_43 ?_
        refine lv_bipush (pc := 46) (v := 8) hx hb dX4_find_46 (by decide) ?_
        refine lv_icmp_ne (pc := 48) (tgt := 53) hx hb dX4_find_48 (by decide) (fun c15 => ?_) (fun c15 => ?_)
        · have hd := wt_if hd c15
          refine lv_aload_n (pc := 53) hx hb dX4_find_53 rfl (lv_at hl 0 rfl) ?_
          refine mr_get (pc := 54) (k := 32) (v := .ref (X.1.2.1 32)) hx hb hts hown hK hW (by decide) rfl q1561 dX4_find_54 ?_
          refine lv_aload_n (pc := 57) hx hb dX4_find_57 rfl (lv_at hl 0 rfl) ?_
          refine mr_get (pc := 58) (k := 28) (v := .int ((w12.2.1 28))) hx hb hts hown hK hW (by decide) rfl q1557 dX4_find_58 ?_
          obtain ⟨h16, hd⟩ := wt_ck_o hd
          refine mr_row (pc := 61) (k := 32) hx hb hK hW rfl h16 dX4_find_61 ?_
          refine lv_iconst (pc := 62) (v := 0) hx hb dX4_find_62 (by decide) ?_
          refine lv_iload_n (pc := 63) hx hb dX4_find_63 rfl (lv_at hl 1 rfl) ?_
          obtain ⟨h17, hd⟩ := wt_ck_o hd
          obtain ⟨σ18, eσ18, hd⟩ := wt_lt_o hd
          refine mr_gst (pc := 64) (k := 32) (i := (((w12.2.1 28)).toNatClampNeg)) hx hb hK hW hJ hS (vp_lt h16) rfl h17 eσ18 dX4_find_64 (fun H locs hW hS => ?_)
          refine lv_aload_n (pc := 65) hx hb dX4_find_65 rfl (lv_at hl 0 rfl) ?_
          refine mr_get (pc := 66) (k := 32) (v := .ref (X.1.2.1 32)) hx hb hts hown hK hW (by decide) rfl q1561 dX4_find_66 ?_
          refine lv_aload_n (pc := 69) hx hb dX4_find_69 rfl (lv_at hl 0 rfl) ?_
          refine mr_get (pc := 70) (k := 28) (v := .int ((σ18.1 28))) hx hb hts hown hK hW (by decide) rfl q1557 dX4_find_70 ?_
          obtain ⟨h19, hd⟩ := wt_ck_o hd
          refine mr_row (pc := 73) (k := 32) hx hb hK hW rfl h19 dX4_find_73 ?_
          refine lv_iconst (pc := 74) (v := 1) hx hb dX4_find_74 (by decide) ?_
          refine lv_iload_n (pc := 75) hx hb dX4_find_75 rfl (lv_at hl 2 rfl) ?_
          obtain ⟨h20, hd⟩ := wt_ck_o hd
          obtain ⟨σ21, eσ21, hd⟩ := wt_lt_o hd
          refine mr_gst (pc := 76) (k := 32) (i := (((σ18.1 28)).toNatClampNeg)) hx hb hK hW hJ hS (vp_lt h19) rfl h20 eσ21 dX4_find_76 (fun H locs hW hS => ?_)
          refine lv_aload_n (pc := 77) hx hb dX4_find_77 rfl (lv_at hl 0 rfl) ?_
          refine mr_get (pc := 78) (k := 32) (v := .ref (X.1.2.1 32)) hx hb hts hown hK hW (by decide) rfl q1561 dX4_find_78 ?_
          refine lv_aload_n (pc := 81) hx hb dX4_find_81 rfl (lv_at hl 0 rfl) ?_
          refine mr_get (pc := 82) (k := 28) (v := .int ((σ21.1 28))) hx hb hts hown hK hW (by decide) rfl q1557 dX4_find_82 ?_
          obtain ⟨h22, hd⟩ := wt_ck_o hd
          refine mr_row (pc := 85) (k := 32) hx hb hK hW rfl h22 dX4_find_85 ?_
          refine lv_iconst (pc := 86) (v := 2) hx hb dX4_find_86 (by decide) ?_
          refine lv_iload_n (pc := 87) hx hb dX4_find_87 rfl (lv_at hl 3 rfl) ?_
          obtain ⟨h23, hd⟩ := wt_ck_o hd
          obtain ⟨σ24, eσ24, hd⟩ := wt_lt_o hd
          refine mr_gst (pc := 88) (k := 32) (i := (((σ21.1 28)).toNatClampNeg)) hx hb hK hW hJ hS (vp_lt h22) rfl h23 eσ24 dX4_find_88 (fun H locs hW hS => ?_)
          refine lv_aload_n (pc := 89) hx hb dX4_find_89 rfl (lv_at hl 0 rfl) ?_
          refine mr_get (pc := 90) (k := 32) (v := .ref (X.1.2.1 32)) hx hb hts hown hK hW (by decide) rfl q1561 dX4_find_90 ?_
          refine lv_aload_n (pc := 93) hx hb dX4_find_93 rfl (lv_at hl 0 rfl) ?_
          refine mr_get (pc := 94) (k := 28) (v := .int ((σ24.1 28))) hx hb hts hown hK hW (by decide) rfl q1557 dX4_find_94 ?_
          obtain ⟨h25, hd⟩ := wt_ck_o hd
          refine mr_row (pc := 97) (k := 32) hx hb hK hW rfl h25 dX4_find_97 ?_
          refine lv_iconst (pc := 98) (v := 3) hx hb dX4_find_98 (by decide) ?_
          refine lv_iload (pc := 99) hx hb dX4_find_99 (lv_at hl 4 rfl) ?_
          obtain ⟨h26, hd⟩ := wt_ck_o hd
          obtain ⟨σ27, eσ27, hd⟩ := wt_lt_o hd
          refine mr_gst (pc := 101) (k := 32) (i := (((σ24.1 28)).toNatClampNeg)) hx hb hK hW hJ hS (vp_lt h25) rfl h26 eσ27 dX4_find_101 (fun H locs hW hS => ?_)
          refine lv_aload_n (pc := 102) hx hb dX4_find_102 rfl (lv_at hl 0 rfl) ?_
          refine lv_dup (pc := 103) hx hb dX4_find_103 rfl ?_
          refine mr_get (pc := 104) (k := 28) (v := .int ((σ27.1 28))) hx hb hts hown hK hW (by decide) rfl q1557 dX4_find_104 ?_
          refine lv_iconst (pc := 107) (v := 1) hx hb dX4_find_107 (by decide) ?_
          refine lv_iadd (pc := 108) hx hb dX4_find_108 ?_
          obtain ⟨σ28, eσ28, hd⟩ := wt_lt_o hd
          refine mr_put (pc := 109) (k := 28) hx hb hts hown hK hW hJ hS (by decide) rfl eσ28 q1557 dX4_find_109 (fun H locs hW hS => ?_)
          refine lv_aload_n (pc := 112) hx hb dX4_find_112 rfl (lv_at hl 0 rfl) ?_
          refine mr_get (pc := 113) (k := 28) (v := .int ((σ28.1 28))) hx hb hts hown hK hW (by decide) rfl q1557 dX4_find_113 ?_
          refine lv_iconst (pc := 116) (v := 1) hx hb dX4_find_116 (by decide) ?_
          refine lv_isub (pc := 117) hx hb dX4_find_117 ?_
          exact mr_iret hx hb hr rfl hlocks (wt_p1 hd) (wt_p2 hd) hW hK hS dX4_find_118
        · have hd := wt_it hd c15
          refine lv_iconst (pc := 51) (v := -1) hx hb dX4_find_51 (by decide) ?_
          exact mr_iret hx hb hr rfl hlocks (wt_p1 hd) (wt_p2 hd) hW hK hS dX4_find_52
      · have hd := wt_if hd c14
        refine lv_iconst (pc := 40) (v := 0) hx hb dX4_find_40 (by decide) ?_
        exact mr_iret hx hb hr rfl hlocks (wt_p1 hd) (wt_p2 hd) hW hK hS dX4_find_41
    have hd := hj8
    refine lv_if_ne (pc := 25) (tgt := 32) hx hb dX4_find_25 (by decide) (fun c11 => ?_) (fun c11 => ?_)
    · have hd := wt_if hd c11
      refine lv_iconst (pc := 32) (v := 0) hx hb dX4_find_32 (by decide) ?_
      exact hX10 (0 : Int32) (Option.some.inj hd) _ _ _ hW hS hl
    · have hd := wt_it hd c11
      refine lv_iconst (pc := 28) (v := 1) hx hb dX4_find_28 (by decide) ?_
      refine lv_goto (pc := 29) (tgt := 33) hx hb dX4_find_29 (by decide) ?_
      exact hX10 (1 : Int32) (Option.some.inj hd) _ _ _ hW hS hl
noncomputable def dX4_isFind (σ : MSt) (a0 : Int32) : Option (Int32) :=
  wt_bd (dX4_in a0 (0 : Int32) ((σ.1 28) - (1 : Int32))) fun w1 => wt_ck (narrow .boolean (.int w1) = Value.int w1) <| some w1
set_option maxHeartbeats 4000000 in
theorem wX4_isFind (l : Launch) {X : MPar} {lo hi : Nat} (hJ : mJ X lo hi) {σ : MSt} {a0 : Int32} {out_ : Int32} (hd : dX4_isFind σ a0 = some out_) : Met l yX4_isFind (ws_ yX4_isFind cX4_isFind 2 (some .boolean)) ({ frames := 1, cells := 0, slots := 0, locals := 22 }) (mP X σ [.ref X.1.1, .int a0]) (mQi X out_ σ (mA lo hi)) 0 0 (mA lo hi) := by
  refine Met.ofW (cc := cX4_isFind) (maxL := 2) (ret := (some .boolean)) (by decide) rfl ?_
  intro p_ e_ s_ m_ args_ below_ meth_ c_ s₁_ B hml hv
  obtain ⟨rfl, hW, hK⟩ := hv
  have hx := B.exec
  have hb := B.bytes
  have hr := B.returns
  have hts := atoms_spec (ws := (ws_ yX4_isFind cX4_isFind 2 (some .boolean))) B.pre
  have hts : ∀ w ∈ lw_all, w.before _ s_ = true := fun w h => hts w (List.mem_cons_of_mem _ h)
  have hown : s_.vm.findClass RX4 = some m_.cls := findClass_of_methodNamed B.named
  have hlocks := B.notSynchronized
  have hS : va_S (mA lo hi) s_.heap s_.heap [] := va_S.rf
  have hl := lv_entry ([.ref X.1.1, .int a0]) (n := 2) (Nat.le_of_ble_eq_true rfl)
  rw [lg_entry_eq]
  generalize (lg_sl ([.ref X.1.1, .int a0]) ++ List.replicate (2 - (lg_sl ([.ref X.1.1, .int a0])).length) Slot.unset).toArray = ls at hl ⊢
  have hl : lv_has ls 2 [(0, .ref X.1.1), (1, .int a0)] := hl
  unfold dX4_isFind at hd
  refine lv_iload_n (pc := 0) hx hb dX4_isFind_0 rfl (lv_at hl 1 rfl) ?_
  refine lv_iconst (pc := 1) (v := 0) hx hb dX4_isFind_1 (by decide) ?_
  refine lv_aload_n (pc := 2) hx hb dX4_isFind_2 rfl (lv_at hl 0 rfl) ?_
  refine mr_get (pc := 3) (k := 28) (v := .int ((σ.1 28))) hx hb hts hown hK hW (by decide) rfl q1557 dX4_isFind_3 ?_
  refine lv_iconst (pc := 6) (v := 1) hx hb dX4_isFind_6 (by decide) ?_
  refine lv_isub (pc := 7) hx hb dX4_isFind_7 ?_
  obtain ⟨w1, hc2, hd⟩ := wt_bd_o hd
  refine kX4_in (pc := 8) hx hb hml hown hts hK hW hS hc2 hl.1 (Nat.le_of_ble_eq_true rfl) ⟨Nat.le_of_ble_eq_true rfl, Nat.le_of_ble_eq_true rfl⟩ ⟨Nat.le_refl _, Nat.le_refl _⟩ dX4_isFind_8 (fun H locs hW hS => ?_)
  obtain ⟨h3, hd⟩ := wt_ck_o hd
  exact mr_iret hx hb hr h3 hlocks (Option.some.inj hd) rfl hW hK hS dX4_isFind_11
theorem kX4_isFind {p : Program} {l : Launch} {e : Env} {R : Room} {s : State} {m : MethodId} {args : Array Value} {below : List Frame} {meth : Method} {c : Code} {H : Heap} {locs : List Loc} {cells slots : Nat} {Q : State → Prop} {cc : ByteArray} {pc : Nat} {ls : Array Slot} {rest : List Value} {H0 : Heap} {nL : Nat} {X : MPar} {lo hi : Nat} {σ : MSt} {a0 : Int32} {out_ : Int32} (hx : p.tables.exec = Jvm.exec) (hb : c.code = cc) (hml : c.maxLocals = nL) (hown : s.vm.findClass RX4 = some m.cls) (hts : ∀ w ∈ lw_all, w.before args s = true) (hK : mK X s) (hJ : mJ X lo hi) (hW : mW X σ H) (hS : va_S (mA lo hi) H0 H locs) (hd : dX4_isFind σ a0 = some out_) (hsz : ls.size = nL) (hrm : (rest.map fun v => v.category).sum ≤ 8) (hR : 2 ≤ R.frames ∧ 43 ≤ R.locals) (hcs : cells ≤ R.cells ∧ slots ≤ R.slots) (hdg : decode cc pc = .ok (.invokevirtual 250, 3)) (kk : ∀ (H1 : Heap) (locs1 : List Loc), mW X σ H1 → va_S (mA lo hi) H0 H1 locs1 → W p l e R s m args below meth c H1 locs1 cells slots Q (F0 m (pc + 3) ls (.int out_ :: rest))) : W p l e R s m args below meth c H locs cells slots Q (F0 m pc ls (.int a0 :: .ref X.1.1 :: rest)) := by
  refine va_calli (va_runV (As := [.int a0]) (rest := rest) ⟨hx, hb, hml, hown, hts⟩ (wX4_isFind l hJ hd) (cwV 1 hts (lw_V q1840 q1842 qs48 q88 q1843) rfl rfl rfl (by decide +kernel) hR) (mr_pre hK hW) rfl rfl hsz rfl (lv_room hrm) hdg hcs) hS (fun _ _ h => h) (fun _ h => h) (fun r u t H1 locs1 ht hvm hp hB hz hk hS1 => ?_)
  have hp : r = out_ := hp
  subst hp
  have hW1 : mW X σ t.heap := hB.1
  rw [ht] at hW1
  exact kk H1 locs1 hW1 hS1
noncomputable def dX4_found (σ : MSt) (a0 : Int32) (a1 : Int32) : Option (Int32 × MSt) :=
  wt_lt (m_sF σ 0 (0 : Int32)) fun σ1 => wt_bd (dX4_isFind σ1 a0) fun w2 => wt_bd (if w2 = 0 then (some (1 : Int32)) else (some (0 : Int32))) fun w4 => wt_bd (dX4_bad σ1 w4 (1 : Int32)) fun w9 => if w9.1 = 0 then (wt_bd (dX4_in a1 (0 : Int32) (3 : Int32)) fun w12 => wt_bd (if w12 = 0 then (some (1 : Int32)) else (some (0 : Int32))) fun w14 => wt_bd (dX4_bad w9.2 w14 (2 : Int32)) fun w19 => if w19.1 = 0 then (wt_ck (vp_in a0 8) <| wt_ck (vp_in a1 4) <| some ((w19.2.2.2 32 (a0.toNatClampNeg) a1.toNatClampNeg), w19.2)) else (some ((0 : Int32), w19.2))) else (some ((0 : Int32), w9.2))
set_option maxHeartbeats 4000000 in
theorem wX4_found (l : Launch) {X : MPar} {lo hi : Nat} (hJ : mJ X lo hi) {σ : MSt} {a0 : Int32} {a1 : Int32} {out_ : Int32 × MSt} (hd : dX4_found σ a0 a1 = some out_) : Met l yX4_found (ws_ yX4_found cX4_found 3 (some .int)) ({ frames := 2, cells := 0, slots := 0, locals := 43 }) (mP X σ [.ref X.1.1, .int a0, .int a1]) (mQi X out_.1 out_.2 (mA lo hi)) 0 0 (mA lo hi) := by
  refine Met.ofW (cc := cX4_found) (maxL := 3) (ret := (some .int)) (by decide) rfl ?_
  intro p_ e_ s_ m_ args_ below_ meth_ c_ s₁_ B hml hv
  obtain ⟨rfl, hW, hK⟩ := hv
  have hx := B.exec
  have hb := B.bytes
  have hr := B.returns
  have hts := atoms_spec (ws := (ws_ yX4_found cX4_found 3 (some .int))) B.pre
  have hts : ∀ w ∈ lw_all, w.before _ s_ = true := fun w h => hts w (List.mem_cons_of_mem _ h)
  have hown : s_.vm.findClass RX4 = some m_.cls := findClass_of_methodNamed B.named
  have hlocks := B.notSynchronized
  have hS : va_S (mA lo hi) s_.heap s_.heap [] := va_S.rf
  have hl := lv_entry ([.ref X.1.1, .int a0, .int a1]) (n := 3) (Nat.le_of_ble_eq_true rfl)
  rw [lg_entry_eq]
  generalize (lg_sl ([.ref X.1.1, .int a0, .int a1]) ++ List.replicate (3 - (lg_sl ([.ref X.1.1, .int a0, .int a1])).length) Slot.unset).toArray = ls at hl ⊢
  have hl : lv_has ls 3 [(0, .ref X.1.1), (1, .int a0), (2, .int a1)] := hl
  unfold dX4_found at hd
  refine lv_aload_n (pc := 0) hx hb dX4_found_0 rfl (lv_at hl 0 rfl) ?_
  refine lv_iconst (pc := 1) (v := 0) hx hb dX4_found_1 (by decide) ?_
  obtain ⟨σ1, eσ1, hd⟩ := wt_lt_o hd
  refine mr_put (pc := 2) (k := 0) hx hb hts hown hK hW hJ hS (by decide) rfl eσ1 q1529 dX4_found_2 (fun H locs hW hS => ?_)
  refine lv_aload_n (pc := 5) hx hb dX4_found_5 rfl (lv_at hl 0 rfl) ?_
  refine lv_aload_n (pc := 6) hx hb dX4_found_6 rfl (lv_at hl 0 rfl) ?_
  refine lv_iload_n (pc := 7) hx hb dX4_found_7 rfl (lv_at hl 1 rfl) ?_
  obtain ⟨w2, hc3, hd⟩ := wt_bd_o hd
  refine kX4_isFind (pc := 8) hx hb hml hown hts hK hJ hW hS hc3 hl.1 (Nat.le_of_ble_eq_true rfl) ⟨Nat.le_of_ble_eq_true rfl, Nat.le_of_ble_eq_true rfl⟩ ⟨Nat.le_refl _, Nat.le_refl _⟩ dX4_found_8 (fun H locs hW hS => ?_)
  obtain ⟨w4, hj5, hq6⟩ := wt_bd_o hd
  have hX7 : ∀ w4_ : Int32, w4_ = w4 → ∀ (H : Heap) (locs : List Loc) (ls : Array Slot), mW X σ1 H → va_S (mA lo hi) s_.heap H locs → lv_has ls 3 [(0, .ref X.1.1), (1, .int a0), (2, .int a1)] → W p_ l e_ (headSpec (ws_ yX4_found cX4_found 3 (some .int)) ({ frames := 2, cells := 0, slots := 0, locals := 43 })).room s_ m_ ([.ref X.1.1, .int a0, .int a1] : List Value).toArray below_ meth_ c_ H locs 0 0 (MQ below_ (mQi X out_.1 out_.2 (mA lo hi)) ([.ref X.1.1, .int a0, .int a1] : List Value).toArray s_ 0 0 (mA lo hi)) (F0 m_ 19 ls [.int w4_, .ref X.1.1]) := by
    intro w4_ hw_
    have hd := hq6
    subst hw_
    clear hj5 hq6
    intro H locs ls hW hS hl
    refine lv_iconst (pc := 19) (v := 1) hx hb dX4_found_19 (by decide) ?_
    obtain ⟨w9, hc10, hd⟩ := wt_bd_o hd
    refine kX4_bad (pc := 20) hx hb hml hown hts hK hJ hW hS hc10 hl.1 (Nat.le_of_ble_eq_true rfl) ⟨Nat.le_of_ble_eq_true rfl, Nat.le_of_ble_eq_true rfl⟩ ⟨Nat.le_refl _, Nat.le_refl _⟩ dX4_found_20 (fun H locs hW hS => ?_)
    refine lv_if_ne (pc := 23) (tgt := 48) hx hb dX4_found_23 (by decide) (fun c11 => ?_) (fun c11 => ?_)
    · have hd := wt_if hd c11
      refine lv_iconst (pc := 48) (v := 0) hx hb dX4_found_48 (by decide) ?_
      exact mr_iret hx hb hr rfl hlocks (wt_p1 hd) (wt_p2 hd) hW hK hS dX4_found_49
    · have hd := wt_it hd c11
      refine lv_aload_n (pc := 26) hx hb dX4_found_26 rfl (lv_at hl 0 rfl) ?_
      refine lv_iload_n (pc := 27) hx hb dX4_found_27 rfl (lv_at hl 2 rfl) ?_
      refine lv_iconst (pc := 28) (v := 0) hx hb dX4_found_28 (by decide) ?_
      refine lv_iconst (pc := 29) (v := 3) hx hb dX4_found_29 (by decide) ?_
      obtain ⟨w12, hc13, hd⟩ := wt_bd_o hd
      refine kX4_in (pc := 30) hx hb hml hown hts hK hW hS hc13 hl.1 (Nat.le_of_ble_eq_true rfl) ⟨Nat.le_of_ble_eq_true rfl, Nat.le_of_ble_eq_true rfl⟩ ⟨Nat.le_refl _, Nat.le_refl _⟩ dX4_found_30 (fun H locs hW hS => ?_)
      obtain ⟨w14, hj15, hq16⟩ := wt_bd_o hd
      have hX17 : ∀ w14_ : Int32, w14_ = w14 → ∀ (H : Heap) (locs : List Loc) (ls : Array Slot), mW X w9.2 H → va_S (mA lo hi) s_.heap H locs → lv_has ls 3 [(0, .ref X.1.1), (1, .int a0), (2, .int a1)] → W p_ l e_ (headSpec (ws_ yX4_found cX4_found 3 (some .int)) ({ frames := 2, cells := 0, slots := 0, locals := 43 })).room s_ m_ ([.ref X.1.1, .int a0, .int a1] : List Value).toArray below_ meth_ c_ H locs 0 0 (MQ below_ (mQi X out_.1 out_.2 (mA lo hi)) ([.ref X.1.1, .int a0, .int a1] : List Value).toArray s_ 0 0 (mA lo hi)) (F0 m_ 41 ls [.int w14_, .ref X.1.1]) := by
        intro w14_ hw_
        have hd := hq16
        subst hw_
        clear hj15 hq16
        intro H locs ls hW hS hl
        refine lv_iconst (pc := 41) (v := 2) hx hb dX4_found_41 (by decide) ?_
        obtain ⟨w19, hc20, hd⟩ := wt_bd_o hd
        refine kX4_bad (pc := 42) hx hb hml hown hts hK hJ hW hS hc20 hl.1 (Nat.le_of_ble_eq_true rfl) ⟨Nat.le_of_ble_eq_true rfl, Nat.le_of_ble_eq_true rfl⟩ ⟨Nat.le_refl _, Nat.le_refl _⟩ dX4_found_42 (fun H locs hW hS => ?_)
        refine lv_if_eq (pc := 45) (tgt := 50) hx hb dX4_found_45 (by decide) (fun c21 => ?_) (fun c21 => ?_)
        · have hd := wt_it hd c21
          refine lv_aload_n (pc := 50) hx hb dX4_found_50 rfl (lv_at hl 0 rfl) ?_
          refine mr_get (pc := 51) (k := 32) (v := .ref (X.1.2.1 32)) hx hb hts hown hK hW (by decide) rfl q1561 dX4_found_51 ?_
          refine lv_iload_n (pc := 54) hx hb dX4_found_54 rfl (lv_at hl 1 rfl) ?_
          obtain ⟨h22, hd⟩ := wt_ck_o hd
          refine mr_row (pc := 55) (k := 32) hx hb hK hW rfl h22 dX4_found_55 ?_
          refine lv_iload_n (pc := 56) hx hb dX4_found_56 rfl (lv_at hl 2 rfl) ?_
          obtain ⟨h23, hd⟩ := wt_ck_o hd
          refine mr_gld (pc := 57) (k := 32) (i := (a0.toNatClampNeg)) hx hb hK hW (vp_lt h22) rfl h23 dX4_found_57 ?_
          exact mr_iret hx hb hr rfl hlocks (wt_p1 hd) (wt_p2 hd) hW hK hS dX4_found_58
        · have hd := wt_if hd c21
          refine lv_iconst (pc := 48) (v := 0) hx hb dX4_found_48 (by decide) ?_
          exact mr_iret hx hb hr rfl hlocks (wt_p1 hd) (wt_p2 hd) hW hK hS dX4_found_49
      have hd := hj15
      refine lv_if_ne (pc := 33) (tgt := 40) hx hb dX4_found_33 (by decide) (fun c18 => ?_) (fun c18 => ?_)
      · have hd := wt_if hd c18
        refine lv_iconst (pc := 40) (v := 0) hx hb dX4_found_40 (by decide) ?_
        exact hX17 (0 : Int32) (Option.some.inj hd) _ _ _ hW hS hl
      · have hd := wt_it hd c18
        refine lv_iconst (pc := 36) (v := 1) hx hb dX4_found_36 (by decide) ?_
        refine lv_goto (pc := 37) (tgt := 41) hx hb dX4_found_37 (by decide) ?_
        exact hX17 (1 : Int32) (Option.some.inj hd) _ _ _ hW hS hl
  have hd := hj5
  refine lv_if_ne (pc := 11) (tgt := 18) hx hb dX4_found_11 (by decide) (fun c8 => ?_) (fun c8 => ?_)
  · have hd := wt_if hd c8
    refine lv_iconst (pc := 18) (v := 0) hx hb dX4_found_18 (by decide) ?_
    exact hX7 (0 : Int32) (Option.some.inj hd) _ _ _ hW hS hl
  · have hd := wt_it hd c8
    refine lv_iconst (pc := 14) (v := 1) hx hb dX4_found_14 (by decide) ?_
    refine lv_goto (pc := 15) (tgt := 19) hx hb dX4_found_15 (by decide) ?_
    exact hX7 (1 : Int32) (Option.some.inj hd) _ _ _ hW hS hl
noncomputable def bX4_drop_2 (v12 : Int32 × MSt) (v23 : Int32 × MSt) : Option ((Int32 × MSt) ⊕ (MSt)) :=
  if (4 : Int32) ≤ v23.1 then (some (.inr v23.2)) else (wt_ck (vp_in v12.1 8) <| wt_ck (vp_in (v12.1 + (1 : Int32)) 8) <| wt_ck (vp_in v23.1 4) <| wt_ck (vp_in v23.1 4) <| wt_lt (m_sG v23.2 32 (v12.1.toNatClampNeg) v23.1.toNatClampNeg (v23.2.2.2 32 (((v12.1 + (1 : Int32))).toNatClampNeg) v23.1.toNatClampNeg)) fun σ38 => wt_lt (v23.1 + (1 : Int32)) fun n39 => some (.inl (n39, σ38)))
noncomputable def bX4_drop_1  (v12 : Int32 × MSt) : Option ((Int32 × MSt) ⊕ (MSt)) :=
  if (v12.2.1 28) ≤ (v12.1 + (1 : Int32)) then (some (.inr v12.2)) else (wt_bd (wt_whC (bX4_drop_2 v12) ((0 : Int32), v12.2)) fun w24 => wt_lt (v12.1 + (1 : Int32)) fun n40 => some (.inl (n40, w24)))
noncomputable def dX4_drop (σ : MSt) (a0 : Int32) : Option (Int32 × MSt) :=
  wt_lt (m_sF σ 0 (0 : Int32)) fun σ1 => wt_bd (dX4_isFind σ1 a0) fun w2 => wt_bd (if w2 = 0 then (some (1 : Int32)) else (some (0 : Int32))) fun w4 => wt_bd (dX4_bad σ1 w4 (1 : Int32)) fun w9 => if w9.1 = 0 then (wt_bd (wt_whC (bX4_drop_1) (a0, w9.2)) fun w13 => wt_lt (m_sF w13 28 ((w13.1 28) - (1 : Int32))) fun σ41 => some ((σ41.1 28), σ41)) else (some ((0 : Int32), w9.2))
set_option maxHeartbeats 4000000 in
theorem wX4_drop (l : Launch) {X : MPar} {lo hi : Nat} (hJ : mJ X lo hi) {σ : MSt} {a0 : Int32} {out_ : Int32 × MSt} (hd : dX4_drop σ a0 = some out_) : Met l yX4_drop (ws_ yX4_drop cX4_drop 4 (some .int)) ({ frames := 2, cells := 0, slots := 0, locals := 43 }) (mP X σ [.ref X.1.1, .int a0]) (mQi X out_.1 out_.2 (mA lo hi)) 0 0 (mA lo hi) := by
  refine Met.ofW (cc := cX4_drop) (maxL := 4) (ret := (some .int)) (by decide) rfl ?_
  intro p_ e_ s_ m_ args_ below_ meth_ c_ s₁_ B hml hv
  obtain ⟨rfl, hW, hK⟩ := hv
  have hx := B.exec
  have hb := B.bytes
  have hr := B.returns
  have hts := atoms_spec (ws := (ws_ yX4_drop cX4_drop 4 (some .int))) B.pre
  have hts : ∀ w ∈ lw_all, w.before _ s_ = true := fun w h => hts w (List.mem_cons_of_mem _ h)
  have hown : s_.vm.findClass RX4 = some m_.cls := findClass_of_methodNamed B.named
  have hlocks := B.notSynchronized
  have hS : va_S (mA lo hi) s_.heap s_.heap [] := va_S.rf
  have hl := lv_entry ([.ref X.1.1, .int a0]) (n := 4) (Nat.le_of_ble_eq_true rfl)
  rw [lg_entry_eq]
  generalize (lg_sl ([.ref X.1.1, .int a0]) ++ List.replicate (4 - (lg_sl ([.ref X.1.1, .int a0])).length) Slot.unset).toArray = ls at hl ⊢
  have hl : lv_has ls 4 [(0, .ref X.1.1), (1, .int a0)] := hl
  unfold dX4_drop at hd
  refine lv_aload_n (pc := 0) hx hb dX4_drop_0 rfl (lv_at hl 0 rfl) ?_
  refine lv_iconst (pc := 1) (v := 0) hx hb dX4_drop_1 (by decide) ?_
  obtain ⟨σ1, eσ1, hd⟩ := wt_lt_o hd
  refine mr_put (pc := 2) (k := 0) hx hb hts hown hK hW hJ hS (by decide) rfl eσ1 q1529 dX4_drop_2 (fun H locs hW hS => ?_)
  refine lv_aload_n (pc := 5) hx hb dX4_drop_5 rfl (lv_at hl 0 rfl) ?_
  refine lv_aload_n (pc := 6) hx hb dX4_drop_6 rfl (lv_at hl 0 rfl) ?_
  refine lv_iload_n (pc := 7) hx hb dX4_drop_7 rfl (lv_at hl 1 rfl) ?_
  obtain ⟨w2, hc3, hd⟩ := wt_bd_o hd
  refine kX4_isFind (pc := 8) hx hb hml hown hts hK hJ hW hS hc3 hl.1 (Nat.le_of_ble_eq_true rfl) ⟨Nat.le_of_ble_eq_true rfl, Nat.le_of_ble_eq_true rfl⟩ ⟨Nat.le_refl _, Nat.le_refl _⟩ dX4_drop_8 (fun H locs hW hS => ?_)
  obtain ⟨w4, hj5, hq6⟩ := wt_bd_o hd
  have hX7 : ∀ w4_ : Int32, w4_ = w4 → ∀ (H : Heap) (locs : List Loc) (ls : Array Slot), mW X σ1 H → va_S (mA lo hi) s_.heap H locs → lv_has ls 4 [(0, .ref X.1.1), (1, .int a0)] → W p_ l e_ (headSpec (ws_ yX4_drop cX4_drop 4 (some .int)) ({ frames := 2, cells := 0, slots := 0, locals := 43 })).room s_ m_ ([.ref X.1.1, .int a0] : List Value).toArray below_ meth_ c_ H locs 0 0 (MQ below_ (mQi X out_.1 out_.2 (mA lo hi)) ([.ref X.1.1, .int a0] : List Value).toArray s_ 0 0 (mA lo hi)) (F0 m_ 19 ls [.int w4_, .ref X.1.1]) := by
    intro w4_ hw_
    have hd := hq6
    subst hw_
    clear hj5 hq6
    intro H locs ls hW hS hl
    refine lv_iconst (pc := 19) (v := 1) hx hb dX4_drop_19 (by decide) ?_
    obtain ⟨w9, hc10, hd⟩ := wt_bd_o hd
    refine kX4_bad (pc := 20) hx hb hml hown hts hK hJ hW hS hc10 hl.1 (Nat.le_of_ble_eq_true rfl) ⟨Nat.le_of_ble_eq_true rfl, Nat.le_of_ble_eq_true rfl⟩ ⟨Nat.le_refl _, Nat.le_refl _⟩ dX4_drop_20 (fun H locs hW hS => ?_)
    refine lv_if_eq (pc := 23) (tgt := 28) hx hb dX4_drop_23 (by decide) (fun c11 => ?_) (fun c11 => ?_)
    · have hd := wt_it hd c11
      refine lv_iload_n (pc := 28) hx hb dX4_drop_28 rfl (lv_at hl 1 rfl) ?_
      refine lv_istore_n (pc := 29) (lv' := [(2, .int a0), (0, .ref X.1.1), (1, .int a0)]) hx hb dX4_drop_29 rfl hl (by decide) rfl (fun ls hl => ?_)
      obtain ⟨w13, hL14, hq15⟩ := wt_bd_o hd
      have hX16 : ∀ w13_ : MSt, w13_ = w13 → ∀ (H : Heap) (locs : List Loc) (ls : Array Slot), mW X w13_ H → va_S (mA lo hi) s_.heap H locs → lv_has ls 4 [(0, .ref X.1.1)] → W p_ l e_ (headSpec (ws_ yX4_drop cX4_drop 4 (some .int)) ({ frames := 2, cells := 0, slots := 0, locals := 43 })).room s_ m_ ([.ref X.1.1, .int a0] : List Value).toArray below_ meth_ c_ H locs 0 0 (MQ below_ (mQi X out_.1 out_.2 (mA lo hi)) ([.ref X.1.1, .int a0] : List Value).toArray s_ 0 0 (mA lo hi)) (F0 m_ 77 ls []) := by
        intro w13_ hw_
        have hd := hq15
        subst hw_
        clear hL14 hq15
        intro H locs ls hW hS hl
        refine lv_aload_n (pc := 77) hx hb dX4_drop_77 rfl (lv_at hl 0 rfl) ?_
        refine lv_dup (pc := 78) hx hb dX4_drop_78 rfl ?_
        refine mr_get (pc := 79) (k := 28) (v := .int ((w13_.1 28))) hx hb hts hown hK hW (by decide) rfl q1557 dX4_drop_79 ?_
        refine lv_iconst (pc := 82) (v := 1) hx hb dX4_drop_82 (by decide) ?_
        refine lv_isub (pc := 83) hx hb dX4_drop_83 ?_
        obtain ⟨σ41, eσ41, hd⟩ := wt_lt_o hd
        refine mr_put (pc := 84) (k := 28) hx hb hts hown hK hW hJ hS (by decide) rfl eσ41 q1557 dX4_drop_84 (fun H locs hW hS => ?_)
        refine lv_aload_n (pc := 87) hx hb dX4_drop_87 rfl (lv_at hl 0 rfl) ?_
        refine mr_get (pc := 88) (k := 28) (v := .int ((σ41.1 28))) hx hb hts hown hK hW (by decide) rfl q1557 dX4_drop_88 ?_
        exact mr_iret hx hb hr rfl hlocks (wt_p1 hd) (wt_p2 hd) hW hK hS dX4_drop_91
      have hI21 : ∀ (k20 : Nat) (v12 : Int32 × MSt), wt_wh (bX4_drop_1) k20 v12 = some w13 → ∀ (H : Heap) (locs : List Loc) (ls : Array Slot), mW X v12.2 H → va_S (mA lo hi) s_.heap H locs → lv_has ls 4 [(0, .ref X.1.1), (2, .int v12.1)] → W p_ l e_ (headSpec (ws_ yX4_drop cX4_drop 4 (some .int)) ({ frames := 2, cells := 0, slots := 0, locals := 43 })).room s_ m_ ([.ref X.1.1, .int a0] : List Value).toArray below_ meth_ c_ H locs 0 0 (MQ below_ (mQi X out_.1 out_.2 (mA lo hi)) ([.ref X.1.1, .int a0] : List Value).toArray s_ 0 0 (mA lo hi)) (F0 m_ 30 ls []) := by
        intro k20
        induction k20 with
        | zero => intro v12 hd; exact absurd hd wt_wh_z
        | succ k20 ih18 =>
          intro v12 hd
          intro H locs ls hW hS hl
          obtain ⟨r19, hd, hk17⟩ := wt_wh_o hd
          unfold bX4_drop_1 at hd
          refine lv_iload_n (pc := 30) hx hb dX4_drop_30 rfl (lv_at hl 1 rfl) ?_
          refine lv_iconst (pc := 31) (v := 1) hx hb dX4_drop_31 (by decide) ?_
          refine lv_iadd (pc := 32) hx hb dX4_drop_32 ?_
          refine lv_aload_n (pc := 33) hx hb dX4_drop_33 rfl (lv_at hl 0 rfl) ?_
          refine mr_get (pc := 34) (k := 28) (v := .int ((v12.2.1 28))) hx hb hts hown hK hW (by decide) rfl q1557 dX4_drop_34 ?_
          refine lv_icmp_ge (pc := 37) (tgt := 77) hx hb dX4_drop_37 (by decide) (fun c22 => ?_) (fun c22 => ?_)
          · have hd := wt_it hd c22
            exact hX16 v12.2 (wt_exit hd hk17) _ _ _ hW hS (lv_sub hl [0] rfl)
          · have hd := wt_if hd c22
            refine lv_iconst (pc := 40) (v := 0) hx hb dX4_drop_40 (by decide) ?_
            refine lv_istore_n (pc := 41) (lv' := [(3, .int (0 : Int32)), (0, .ref X.1.1), (2, .int v12.1)]) hx hb dX4_drop_41 rfl hl (by decide) rfl (fun ls hl => ?_)
            obtain ⟨w24, hL25, hq26⟩ := wt_bd_o hd
            have hX27 : ∀ w24_ : MSt, w24_ = w24 → ∀ (H : Heap) (locs : List Loc) (ls : Array Slot), mW X w24_ H → va_S (mA lo hi) s_.heap H locs → lv_has ls 4 [(0, .ref X.1.1), (2, .int v12.1)] → W p_ l e_ (headSpec (ws_ yX4_drop cX4_drop 4 (some .int)) ({ frames := 2, cells := 0, slots := 0, locals := 43 })).room s_ m_ ([.ref X.1.1, .int a0] : List Value).toArray below_ meth_ c_ H locs 0 0 (MQ below_ (mQi X out_.1 out_.2 (mA lo hi)) ([.ref X.1.1, .int a0] : List Value).toArray s_ 0 0 (mA lo hi)) (F0 m_ 71 ls []) := by
              intro w24_ hw_
              have hd := hq26
              subst hw_
              clear hL25 hq26
              intro H locs ls hW hS hl
              obtain ⟨n40, en40, hd⟩ := wt_lt_o hd
              refine lv_iinc (pc := 71) (k := 1) (v := n40) (lv' := [(2, .int n40), (0, .ref X.1.1)]) hx hb dX4_drop_71 hl rfl en40.symm (by decide) rfl (fun ls hl => ?_)
              refine lv_goto (pc := 74) (tgt := 30) hx hb dX4_drop_74 (by decide) ?_
              exact ih18 _ (wt_again hd hk17) _ _ _ hW hS (lv_sub hl [1, 0] rfl)
            have hI32 : ∀ (k31 : Nat) (v23 : Int32 × MSt), wt_wh (bX4_drop_2 v12) k31 v23 = some w24 → ∀ (H : Heap) (locs : List Loc) (ls : Array Slot), mW X v23.2 H → va_S (mA lo hi) s_.heap H locs → lv_has ls 4 [(0, .ref X.1.1), (2, .int v12.1), (3, .int v23.1)] → W p_ l e_ (headSpec (ws_ yX4_drop cX4_drop 4 (some .int)) ({ frames := 2, cells := 0, slots := 0, locals := 43 })).room s_ m_ ([.ref X.1.1, .int a0] : List Value).toArray below_ meth_ c_ H locs 0 0 (MQ below_ (mQi X out_.1 out_.2 (mA lo hi)) ([.ref X.1.1, .int a0] : List Value).toArray s_ 0 0 (mA lo hi)) (F0 m_ 42 ls []) := by
              intro k31
              induction k31 with
              | zero => intro v23 hd; exact absurd hd wt_wh_z
              | succ k31 ih29 =>
                intro v23 hd
                intro H locs ls hW hS hl
                obtain ⟨r30, hd, hk28⟩ := wt_wh_o hd
                unfold bX4_drop_2 at hd
                refine lv_iload_n (pc := 42) hx hb dX4_drop_42 rfl (lv_at hl 2 rfl) ?_
                refine lv_iconst (pc := 43) (v := 4) hx hb dX4_drop_43 (by decide) ?_
                refine lv_icmp_ge (pc := 44) (tgt := 71) hx hb dX4_drop_44 (by decide) (fun c33 => ?_) (fun c33 => ?_)
                · have hd := wt_it hd c33
                  exact hX27 v23.2 (wt_exit hd hk28) _ _ _ hW hS (lv_sub hl [0, 1] rfl)
                · have hd := wt_if hd c33
                  refine lv_aload_n (pc := 47) hx hb dX4_drop_47 rfl (lv_at hl 0 rfl) ?_
                  refine mr_get (pc := 48) (k := 32) (v := .ref (X.1.2.1 32)) hx hb hts hown hK hW (by decide) rfl q1561 dX4_drop_48 ?_
                  refine lv_iload_n (pc := 51) hx hb dX4_drop_51 rfl (lv_at hl 1 rfl) ?_
                  obtain ⟨h34, hd⟩ := wt_ck_o hd
                  refine mr_row (pc := 52) (k := 32) hx hb hK hW rfl h34 dX4_drop_52 ?_
                  refine lv_iload_n (pc := 53) hx hb dX4_drop_53 rfl (lv_at hl 2 rfl) ?_
                  refine lv_aload_n (pc := 54) hx hb dX4_drop_54 rfl (lv_at hl 0 rfl) ?_
                  refine mr_get (pc := 55) (k := 32) (v := .ref (X.1.2.1 32)) hx hb hts hown hK hW (by decide) rfl q1561 dX4_drop_55 ?_
                  refine lv_iload_n (pc := 58) hx hb dX4_drop_58 rfl (lv_at hl 1 rfl) ?_
                  refine lv_iconst (pc := 59) (v := 1) hx hb dX4_drop_59 (by decide) ?_
                  refine lv_iadd (pc := 60) hx hb dX4_drop_60 ?_
                  obtain ⟨h35, hd⟩ := wt_ck_o hd
                  refine mr_row (pc := 61) (k := 32) hx hb hK hW rfl h35 dX4_drop_61 ?_
                  refine lv_iload_n (pc := 62) hx hb dX4_drop_62 rfl (lv_at hl 2 rfl) ?_
                  obtain ⟨h36, hd⟩ := wt_ck_o hd
                  refine mr_gld (pc := 63) (k := 32) (i := (((v12.1 + (1 : Int32))).toNatClampNeg)) hx hb hK hW (vp_lt h35) rfl h36 dX4_drop_63 ?_
                  obtain ⟨h37, hd⟩ := wt_ck_o hd
                  obtain ⟨σ38, eσ38, hd⟩ := wt_lt_o hd
                  refine mr_gst (pc := 64) (k := 32) (i := (v12.1.toNatClampNeg)) hx hb hK hW hJ hS (vp_lt h34) rfl h37 eσ38 dX4_drop_64 (fun H locs hW hS => ?_)
                  obtain ⟨n39, en39, hd⟩ := wt_lt_o hd
                  refine lv_iinc (pc := 65) (k := 2) (v := n39) (lv' := [(3, .int n39), (0, .ref X.1.1), (2, .int v12.1)]) hx hb dX4_drop_65 hl rfl en39.symm (by decide) rfl (fun ls hl => ?_)
                  refine lv_goto (pc := 68) (tgt := 42) hx hb dX4_drop_68 (by decide) ?_
                  exact ih29 _ (wt_again hd hk28) _ _ _ hW hS (lv_sub hl [1, 2, 0] rfl)
            obtain ⟨k31, hL25⟩ := wt_whC_o hL25
            exact hI32 k31 _ hL25 _ _ _ hW hS (lv_sub hl [1, 2, 0] rfl)
      obtain ⟨k20, hL14⟩ := wt_whC_o hL14
      exact hI21 k20 _ hL14 _ _ _ hW hS (lv_sub hl [1, 0] rfl)
    · have hd := wt_if hd c11
      refine lv_iconst (pc := 26) (v := 0) hx hb dX4_drop_26 (by decide) ?_
      exact mr_iret hx hb hr rfl hlocks (wt_p1 hd) (wt_p2 hd) hW hK hS dX4_drop_27
  have hd := hj5
  refine lv_if_ne (pc := 11) (tgt := 18) hx hb dX4_drop_11 (by decide) (fun c8 => ?_) (fun c8 => ?_)
  · have hd := wt_if hd c8
    refine lv_iconst (pc := 18) (v := 0) hx hb dX4_drop_18 (by decide) ?_
    exact hX7 (0 : Int32) (Option.some.inj hd) _ _ _ hW hS hl
  · have hd := wt_it hd c8
    refine lv_iconst (pc := 14) (v := 1) hx hb dX4_drop_14 (by decide) ?_
    refine lv_goto (pc := 15) (tgt := 19) hx hb dX4_drop_15 (by decide) ?_
    exact hX7 (1 : Int32) (Option.some.inj hd) _ _ _ hW hS hl
noncomputable def bX4_times_1 (a0 : Int32) (a1 : Int32) (v1 : Int64 × Int32 × MSt) : Option ((Int64 × Int32 × MSt) ⊕ (MSt)) :=
  if (330 : Int32) ≤ v1.2.1 then (some (.inr v1.2.2)) else (wt_ck (vp_in a0 3) <| wt_ck (vp_in v1.2.1 330) <| wt_lt ((((Int32.toInt64 (v1.2.2.2.2 48 (a0.toNatClampNeg) v1.2.1.toNatClampNeg)) * (Int32.toInt64 a1)) + v1.1)) fun n14 => wt_ck (vp_in a0 3) <| wt_ck (vp_in v1.2.1 330) <| wt_lt (m_sG v1.2.2 48 (a0.toNatClampNeg) v1.2.1.toNatClampNeg (Int64.toInt32 (n14 - n14 / (10000 : Int64) * (10000 : Int64)))) fun σ17 => wt_lt ((n14 / (10000 : Int64))) fun n18 => wt_lt (v1.2.1 + (1 : Int32)) fun n19 => some (.inl (n18, n19, σ17)))
noncomputable def dX4_times (σ : MSt) (a0 : Int32) (a1 : Int32) : Option (MSt) :=
  wt_bd (wt_whC (bX4_times_1 a0 a1) ((0 : Int64), (0 : Int32), σ)) fun w2 => some w2
set_option maxHeartbeats 4000000 in
theorem wX4_times (l : Launch) {X : MPar} {lo hi : Nat} (hJ : mJ X lo hi) {σ : MSt} {a0 : Int32} {a1 : Int32} {out_ : MSt} (hd : dX4_times σ a0 a1 = some out_) : Met l yX4_times (ws_ yX4_times cX4_times 8 none) ({ frames := 0, cells := 0, slots := 0, locals := 0 }) (mP X σ [.ref X.1.1, .int a0, .int a1]) (mQv X out_ (mA lo hi)) 0 0 (mA lo hi) := by
  refine Met.ofW (cc := cX4_times) (maxL := 8) (ret := none) (by decide) rfl ?_
  intro p_ e_ s_ m_ args_ below_ meth_ c_ s₁_ B hml hv
  obtain ⟨rfl, hW, hK⟩ := hv
  have hx := B.exec
  have hb := B.bytes
  have hr := B.returns
  have hts := atoms_spec (ws := (ws_ yX4_times cX4_times 8 none)) B.pre
  have hts : ∀ w ∈ lw_all, w.before _ s_ = true := fun w h => hts w (List.mem_cons_of_mem _ h)
  have hown : s_.vm.findClass RX4 = some m_.cls := findClass_of_methodNamed B.named
  have hlocks := B.notSynchronized
  have hS : va_S (mA lo hi) s_.heap s_.heap [] := va_S.rf
  have hl := lv_entry ([.ref X.1.1, .int a0, .int a1]) (n := 8) (Nat.le_of_ble_eq_true rfl)
  rw [lg_entry_eq]
  generalize (lg_sl ([.ref X.1.1, .int a0, .int a1]) ++ List.replicate (8 - (lg_sl ([.ref X.1.1, .int a0, .int a1])).length) Slot.unset).toArray = ls at hl ⊢
  have hl : lv_has ls 8 [(0, .ref X.1.1), (1, .int a0), (2, .int a1)] := hl
  unfold dX4_times at hd
  refine lv_lconst (pc := 0) (v := 0) hx hb dX4_times_0 (by decide) ?_
  refine lv_lstore_n (pc := 1) (lv' := [(3, .long (0 : Int64)), (0, .ref X.1.1), (1, .int a0), (2, .int a1)]) hx hb dX4_times_1 rfl hl (by decide) rfl (fun ls hl => ?_)
  refine lv_iconst (pc := 2) (v := 0) hx hb dX4_times_2 (by decide) ?_
  refine lv_istore (pc := 3) (lv' := [(5, .int (0 : Int32)), (3, .long (0 : Int64)), (0, .ref X.1.1), (1, .int a0), (2, .int a1)]) hx hb dX4_times_3 hl (by decide) rfl (fun ls hl => ?_)
  obtain ⟨w2, hL3, hq4⟩ := wt_bd_o hd
  have hX5 : ∀ w2_ : MSt, w2_ = w2 → ∀ (H : Heap) (locs : List Loc) (ls : Array Slot), mW X w2_ H → va_S (mA lo hi) s_.heap H locs → lv_has ls 8 [] → W p_ l e_ (headSpec (ws_ yX4_times cX4_times 8 none) ({ frames := 0, cells := 0, slots := 0, locals := 0 })).room s_ m_ ([.ref X.1.1, .int a0, .int a1] : List Value).toArray below_ meth_ c_ H locs 0 0 (MQ below_ (mQv X out_ (mA lo hi)) ([.ref X.1.1, .int a0, .int a1] : List Value).toArray s_ 0 0 (mA lo hi)) (F0 m_ 59 ls []) := by
    intro w2_ hw_
    have hd := hq4
    subst hw_
    clear hL3 hq4
    intro H locs ls hW hS hl
    exact mr_vret hx hb hr hlocks (Option.some.inj hd) hW hK hS dX4_times_59
  have hI10 : ∀ (k9 : Nat) (v1 : Int64 × Int32 × MSt), wt_wh (bX4_times_1 a0 a1) k9 v1 = some w2 → ∀ (H : Heap) (locs : List Loc) (ls : Array Slot), mW X v1.2.2 H → va_S (mA lo hi) s_.heap H locs → lv_has ls 8 [(0, .ref X.1.1), (1, .int a0), (2, .int a1), (3, .long v1.1), (5, .int v1.2.1)] → W p_ l e_ (headSpec (ws_ yX4_times cX4_times 8 none) ({ frames := 0, cells := 0, slots := 0, locals := 0 })).room s_ m_ ([.ref X.1.1, .int a0, .int a1] : List Value).toArray below_ meth_ c_ H locs 0 0 (MQ below_ (mQv X out_ (mA lo hi)) ([.ref X.1.1, .int a0, .int a1] : List Value).toArray s_ 0 0 (mA lo hi)) (F0 m_ 5 ls []) := by
    intro k9
    induction k9 with
    | zero => intro v1 hd; exact absurd hd wt_wh_z
    | succ k9 ih7 =>
      intro v1 hd
      intro H locs ls hW hS hl
      obtain ⟨r8, hd, hk6⟩ := wt_wh_o hd
      unfold bX4_times_1 at hd
      refine lv_iload (pc := 5) hx hb dX4_times_5 (lv_at hl 4 rfl) ?_
      refine lv_sipush (pc := 7) (v := 330) hx hb dX4_times_7 (by decide) ?_
      refine lv_icmp_ge (pc := 10) (tgt := 59) hx hb dX4_times_10 (by decide) (fun c11 => ?_) (fun c11 => ?_)
      · have hd := wt_it hd c11
        exact hX5 v1.2.2 (wt_exit hd hk6) _ _ _ hW hS (lv_sub hl [] rfl)
      · have hd := wt_if hd c11
        refine lv_aload_n (pc := 13) hx hb dX4_times_13 rfl (lv_at hl 0 rfl) ?_
        refine mr_get (pc := 14) (k := 48) (v := .ref (X.1.2.1 48)) hx hb hts hown hK hW (by decide) rfl q1577 dX4_times_14 ?_
        refine lv_iload_n (pc := 17) hx hb dX4_times_17 rfl (lv_at hl 1 rfl) ?_
        obtain ⟨h12, hd⟩ := wt_ck_o hd
        refine mr_row (pc := 18) (k := 48) hx hb hK hW rfl h12 dX4_times_18 ?_
        refine lv_iload (pc := 19) hx hb dX4_times_19 (lv_at hl 4 rfl) ?_
        obtain ⟨h13, hd⟩ := wt_ck_o hd
        refine mr_gld (pc := 21) (k := 48) (i := (a0.toNatClampNeg)) hx hb hK hW (vp_lt h12) rfl h13 dX4_times_21 ?_
        refine lv_i2l (pc := 22) hx hb dX4_times_22 rfl ?_
        refine lv_iload_n (pc := 23) hx hb dX4_times_23 rfl (lv_at hl 2 rfl) ?_
        refine lv_i2l (pc := 24) hx hb dX4_times_24 rfl ?_
        refine lv_lmul (pc := 25) hx hb dX4_times_25 ?_
        refine lv_lload_n (pc := 26) hx hb dX4_times_26 rfl (lv_at hl 3 rfl) ?_
        refine lv_ladd (pc := 27) hx hb dX4_times_27 ?_
        obtain ⟨n14, en14, hd⟩ := wt_lt_o hd
        refine lv_topel en14 ?_
        refine lv_lstore (pc := 28) (lv' := [(6, .long n14), (0, .ref X.1.1), (1, .int a0), (2, .int a1), (3, .long v1.1), (5, .int v1.2.1)]) hx hb dX4_times_28 hl (by decide) rfl (fun ls hl => ?_)
        refine lv_aload_n (pc := 30) hx hb dX4_times_30 rfl (lv_at hl 1 rfl) ?_
        refine mr_get (pc := 31) (k := 48) (v := .ref (X.1.2.1 48)) hx hb hts hown hK hW (by decide) rfl q1577 dX4_times_31 ?_
        refine lv_iload_n (pc := 34) hx hb dX4_times_34 rfl (lv_at hl 2 rfl) ?_
        obtain ⟨h15, hd⟩ := wt_ck_o hd
        refine mr_row (pc := 35) (k := 48) hx hb hK hW rfl h15 dX4_times_35 ?_
        refine lv_iload (pc := 36) hx hb dX4_times_36 (lv_at hl 5 rfl) ?_
        refine lv_lload (pc := 38) hx hb dX4_times_38 (lv_at hl 0 rfl) ?_
        refine lv_ldc2 (pc := 40) hx hb hown (hts _ q1864) dX4_times_40 ?_
        refine lv_lrem (pc := 43) hx hb dX4_times_43 (by decide) ?_
        refine lv_l2i (pc := 44) hx hb dX4_times_44 rfl ?_
        obtain ⟨h16, hd⟩ := wt_ck_o hd
        obtain ⟨σ17, eσ17, hd⟩ := wt_lt_o hd
        refine mr_gst (pc := 45) (k := 48) (i := (a0.toNatClampNeg)) hx hb hK hW hJ hS (vp_lt h15) rfl h16 eσ17 dX4_times_45 (fun H locs hW hS => ?_)
        refine lv_lload (pc := 46) hx hb dX4_times_46 (lv_at hl 0 rfl) ?_
        refine lv_ldc2 (pc := 48) hx hb hown (hts _ q1864) dX4_times_48 ?_
        refine lv_ldiv (pc := 51) hx hb dX4_times_51 (by decide) ?_
        obtain ⟨n18, en18, hd⟩ := wt_lt_o hd
        refine lv_topel en18 ?_
        refine lv_lstore_n (pc := 52) (lv' := [(3, .long n18), (6, .long n14), (0, .ref X.1.1), (1, .int a0), (2, .int a1), (5, .int v1.2.1)]) hx hb dX4_times_52 rfl hl (by decide) rfl (fun ls hl => ?_)
        obtain ⟨n19, en19, hd⟩ := wt_lt_o hd
        refine lv_iinc (pc := 53) (k := 5) (v := n19) (lv' := [(5, .int n19), (3, .long n18), (6, .long n14), (0, .ref X.1.1), (1, .int a0), (2, .int a1)]) hx hb dX4_times_53 hl rfl en19.symm (by decide) rfl (fun ls hl => ?_)
        refine lv_goto (pc := 56) (tgt := 5) hx hb dX4_times_56 (by decide) ?_
        exact ih7 _ (wt_again hd hk6) _ _ _ hW hS (lv_sub hl [3, 4, 5, 1, 0] rfl)
  obtain ⟨k9, hL3⟩ := wt_whC_o hL3
  exact hI10 k9 _ hL3 _ _ _ hW hS (lv_sub hl [2, 3, 4, 1, 0] rfl)
theorem kX4_times {p : Program} {l : Launch} {e : Env} {R : Room} {s : State} {m : MethodId} {args : Array Value} {below : List Frame} {meth : Method} {c : Code} {H : Heap} {locs : List Loc} {cells slots : Nat} {Q : State → Prop} {cc : ByteArray} {pc : Nat} {ls : Array Slot} {rest : List Value} {H0 : Heap} {nL : Nat} {X : MPar} {lo hi : Nat} {σ : MSt} {a0 : Int32} {a1 : Int32} {out_ : MSt} (hx : p.tables.exec = Jvm.exec) (hb : c.code = cc) (hml : c.maxLocals = nL) (hown : s.vm.findClass RX4 = some m.cls) (hts : ∀ w ∈ lw_all, w.before args s = true) (hK : mK X s) (hJ : mJ X lo hi) (hW : mW X σ H) (hS : va_S (mA lo hi) H0 H locs) (hd : dX4_times σ a0 a1 = some out_) (hsz : ls.size = nL) (hrm : (rest.map fun v => v.category).sum ≤ 8) (hR : 1 ≤ R.frames ∧ 27 ≤ R.locals) (hcs : cells ≤ R.cells ∧ slots ≤ R.slots) (hdg : decode cc pc = .ok (.invokevirtual 258, 3)) (kk : ∀ (H1 : Heap) (locs1 : List Loc), mW X out_ H1 → va_S (mA lo hi) H0 H1 locs1 → W p l e R s m args below meth c H1 locs1 cells slots Q (F0 m (pc + 3) ls (rest))) : W p l e R s m args below meth c H locs cells slots Q (F0 m pc ls (.int a1 :: .int a0 :: .ref X.1.1 :: rest)) := by
  refine va_callv (va_runV (As := [.int a0, .int a1]) (rest := rest) ⟨hx, hb, hml, hown, hts⟩ (wX4_times l hJ hd) (cwV 2 hts (lw_V q1860 q1862 qs51 q88 q1863) rfl rfl rfl (by decide +kernel) hR) (mr_pre hK hW) rfl rfl hsz rfl (lv_room hrm) hdg hcs) hS (fun _ _ h => h) (fun _ h => h) (fun u t H1 locs1 ht hvm hp hB hz hk hS1 => ?_)
  have hW1 : mW X out_ t.heap := hB.1
  rw [ht] at hW1
  exact kk H1 locs1 hW1 hS1
noncomputable def bX4_parts_1 (a0 : Int32) (a1 : Int32) (v1 : Int32 × Int32 × MSt) : Option ((Int32 × Int32 × MSt) ⊕ (MSt)) :=
  if v1.2.1 < 0 then (some (.inr v1.2.2)) else (wt_ck (vp_in a0 3) <| wt_ck (vp_in v1.2.1 330) <| wt_lt (((v1.1 * (10000 : Int32)) + (v1.2.2.2.2 48 (a0.toNatClampNeg) v1.2.1.toNatClampNeg))) fun n14 => wt_ck (vp_in a0 3) <| wt_ck (¬ a1 = 0) <| wt_ck (vp_in v1.2.1 330) <| wt_lt (m_sG v1.2.2 48 (a0.toNatClampNeg) v1.2.1.toNatClampNeg (n14 / a1)) fun σ18 => wt_ck (¬ a1 = 0) <| wt_lt ((n14 - n14 / a1 * a1)) fun n20 => wt_lt (v1.2.1 + (-1 : Int32)) fun n21 => some (.inl (n20, n21, σ18)))
noncomputable def dX4_parts (σ : MSt) (a0 : Int32) (a1 : Int32) : Option (MSt) :=
  wt_bd (wt_whC (bX4_parts_1 a0 a1) ((0 : Int32), (329 : Int32), σ)) fun w2 => some w2
set_option maxHeartbeats 4000000 in
theorem wX4_parts (l : Launch) {X : MPar} {lo hi : Nat} (hJ : mJ X lo hi) {σ : MSt} {a0 : Int32} {a1 : Int32} {out_ : MSt} (hd : dX4_parts σ a0 a1 = some out_) : Met l yX4_parts (ws_ yX4_parts cX4_parts 6 none) ({ frames := 0, cells := 0, slots := 0, locals := 0 }) (mP X σ [.ref X.1.1, .int a0, .int a1]) (mQv X out_ (mA lo hi)) 0 0 (mA lo hi) := by
  refine Met.ofW (cc := cX4_parts) (maxL := 6) (ret := none) (by decide) rfl ?_
  intro p_ e_ s_ m_ args_ below_ meth_ c_ s₁_ B hml hv
  obtain ⟨rfl, hW, hK⟩ := hv
  have hx := B.exec
  have hb := B.bytes
  have hr := B.returns
  have hts := atoms_spec (ws := (ws_ yX4_parts cX4_parts 6 none)) B.pre
  have hts : ∀ w ∈ lw_all, w.before _ s_ = true := fun w h => hts w (List.mem_cons_of_mem _ h)
  have hown : s_.vm.findClass RX4 = some m_.cls := findClass_of_methodNamed B.named
  have hlocks := B.notSynchronized
  have hS : va_S (mA lo hi) s_.heap s_.heap [] := va_S.rf
  have hl := lv_entry ([.ref X.1.1, .int a0, .int a1]) (n := 6) (Nat.le_of_ble_eq_true rfl)
  rw [lg_entry_eq]
  generalize (lg_sl ([.ref X.1.1, .int a0, .int a1]) ++ List.replicate (6 - (lg_sl ([.ref X.1.1, .int a0, .int a1])).length) Slot.unset).toArray = ls at hl ⊢
  have hl : lv_has ls 6 [(0, .ref X.1.1), (1, .int a0), (2, .int a1)] := hl
  unfold dX4_parts at hd
  refine lv_iconst (pc := 0) (v := 0) hx hb dX4_parts_0 (by decide) ?_
  refine lv_istore_n (pc := 1) (lv' := [(3, .int (0 : Int32)), (0, .ref X.1.1), (1, .int a0), (2, .int a1)]) hx hb dX4_parts_1 rfl hl (by decide) rfl (fun ls hl => ?_)
  refine lv_sipush (pc := 2) (v := 329) hx hb dX4_parts_2 (by decide) ?_
  refine lv_istore (pc := 5) (lv' := [(4, .int (329 : Int32)), (3, .int (0 : Int32)), (0, .ref X.1.1), (1, .int a0), (2, .int a1)]) hx hb dX4_parts_5 hl (by decide) rfl (fun ls hl => ?_)
  obtain ⟨w2, hL3, hq4⟩ := wt_bd_o hd
  have hX5 : ∀ w2_ : MSt, w2_ = w2 → ∀ (H : Heap) (locs : List Loc) (ls : Array Slot), mW X w2_ H → va_S (mA lo hi) s_.heap H locs → lv_has ls 6 [] → W p_ l e_ (headSpec (ws_ yX4_parts cX4_parts 6 none) ({ frames := 0, cells := 0, slots := 0, locals := 0 })).room s_ m_ ([.ref X.1.1, .int a0, .int a1] : List Value).toArray below_ meth_ c_ H locs 0 0 (MQ below_ (mQv X out_ (mA lo hi)) ([.ref X.1.1, .int a0, .int a1] : List Value).toArray s_ 0 0 (mA lo hi)) (F0 m_ 53 ls []) := by
    intro w2_ hw_
    have hd := hq4
    subst hw_
    clear hL3 hq4
    intro H locs ls hW hS hl
    exact mr_vret hx hb hr hlocks (Option.some.inj hd) hW hK hS dX4_parts_53
  have hI10 : ∀ (k9 : Nat) (v1 : Int32 × Int32 × MSt), wt_wh (bX4_parts_1 a0 a1) k9 v1 = some w2 → ∀ (H : Heap) (locs : List Loc) (ls : Array Slot), mW X v1.2.2 H → va_S (mA lo hi) s_.heap H locs → lv_has ls 6 [(0, .ref X.1.1), (1, .int a0), (2, .int a1), (3, .int v1.1), (4, .int v1.2.1)] → W p_ l e_ (headSpec (ws_ yX4_parts cX4_parts 6 none) ({ frames := 0, cells := 0, slots := 0, locals := 0 })).room s_ m_ ([.ref X.1.1, .int a0, .int a1] : List Value).toArray below_ meth_ c_ H locs 0 0 (MQ below_ (mQv X out_ (mA lo hi)) ([.ref X.1.1, .int a0, .int a1] : List Value).toArray s_ 0 0 (mA lo hi)) (F0 m_ 7 ls []) := by
    intro k9
    induction k9 with
    | zero => intro v1 hd; exact absurd hd wt_wh_z
    | succ k9 ih7 =>
      intro v1 hd
      intro H locs ls hW hS hl
      obtain ⟨r8, hd, hk6⟩ := wt_wh_o hd
      unfold bX4_parts_1 at hd
      refine lv_iload (pc := 7) hx hb dX4_parts_7 (lv_at hl 4 rfl) ?_
      refine lv_if_lt (pc := 9) (tgt := 53) hx hb dX4_parts_9 (by decide) (fun c11 => ?_) (fun c11 => ?_)
      · have hd := wt_it hd c11
        exact hX5 v1.2.2 (wt_exit hd hk6) _ _ _ hW hS (lv_sub hl [] rfl)
      · have hd := wt_if hd c11
        refine lv_iload_n (pc := 12) hx hb dX4_parts_12 rfl (lv_at hl 3 rfl) ?_
        refine lv_sipush (pc := 13) (v := 10000) hx hb dX4_parts_13 (by decide) ?_
        refine lv_imul (pc := 16) hx hb dX4_parts_16 ?_
        refine lv_aload_n (pc := 17) hx hb dX4_parts_17 rfl (lv_at hl 0 rfl) ?_
        refine mr_get (pc := 18) (k := 48) (v := .ref (X.1.2.1 48)) hx hb hts hown hK hW (by decide) rfl q1577 dX4_parts_18 ?_
        refine lv_iload_n (pc := 21) hx hb dX4_parts_21 rfl (lv_at hl 1 rfl) ?_
        obtain ⟨h12, hd⟩ := wt_ck_o hd
        refine mr_row (pc := 22) (k := 48) hx hb hK hW rfl h12 dX4_parts_22 ?_
        refine lv_iload (pc := 23) hx hb dX4_parts_23 (lv_at hl 4 rfl) ?_
        obtain ⟨h13, hd⟩ := wt_ck_o hd
        refine mr_gld (pc := 25) (k := 48) (i := (a0.toNatClampNeg)) hx hb hK hW (vp_lt h12) rfl h13 dX4_parts_25 ?_
        refine lv_iadd (pc := 26) hx hb dX4_parts_26 ?_
        obtain ⟨n14, en14, hd⟩ := wt_lt_o hd
        refine lv_tope en14 ?_
        refine lv_istore (pc := 27) (lv' := [(5, .int n14), (0, .ref X.1.1), (1, .int a0), (2, .int a1), (3, .int v1.1), (4, .int v1.2.1)]) hx hb dX4_parts_27 hl (by decide) rfl (fun ls hl => ?_)
        refine lv_aload_n (pc := 29) hx hb dX4_parts_29 rfl (lv_at hl 1 rfl) ?_
        refine mr_get (pc := 30) (k := 48) (v := .ref (X.1.2.1 48)) hx hb hts hown hK hW (by decide) rfl q1577 dX4_parts_30 ?_
        refine lv_iload_n (pc := 33) hx hb dX4_parts_33 rfl (lv_at hl 2 rfl) ?_
        obtain ⟨h15, hd⟩ := wt_ck_o hd
        refine mr_row (pc := 34) (k := 48) hx hb hK hW rfl h15 dX4_parts_34 ?_
        refine lv_iload (pc := 35) hx hb dX4_parts_35 (lv_at hl 5 rfl) ?_
        refine lv_iload (pc := 37) hx hb dX4_parts_37 (lv_at hl 0 rfl) ?_
        refine lv_iload_n (pc := 39) hx hb dX4_parts_39 rfl (lv_at hl 3 rfl) ?_
        obtain ⟨h16, hd⟩ := wt_ck_o hd
        refine lv_idiv (pc := 40) hx hb dX4_parts_40 h16 ?_
        obtain ⟨h17, hd⟩ := wt_ck_o hd
        obtain ⟨σ18, eσ18, hd⟩ := wt_lt_o hd
        refine mr_gst (pc := 41) (k := 48) (i := (a0.toNatClampNeg)) hx hb hK hW hJ hS (vp_lt h15) rfl h17 eσ18 dX4_parts_41 (fun H locs hW hS => ?_)
        refine lv_iload (pc := 42) hx hb dX4_parts_42 (lv_at hl 0 rfl) ?_
        refine lv_iload_n (pc := 44) hx hb dX4_parts_44 rfl (lv_at hl 3 rfl) ?_
        obtain ⟨h19, hd⟩ := wt_ck_o hd
        refine lv_irem (pc := 45) hx hb dX4_parts_45 h19 ?_
        obtain ⟨n20, en20, hd⟩ := wt_lt_o hd
        refine lv_tope en20 ?_
        refine lv_istore_n (pc := 46) (lv' := [(3, .int n20), (5, .int n14), (0, .ref X.1.1), (1, .int a0), (2, .int a1), (4, .int v1.2.1)]) hx hb dX4_parts_46 rfl hl (by decide) rfl (fun ls hl => ?_)
        obtain ⟨n21, en21, hd⟩ := wt_lt_o hd
        refine lv_iinc (pc := 47) (k := 5) (v := n21) (lv' := [(4, .int n21), (3, .int n20), (5, .int n14), (0, .ref X.1.1), (1, .int a0), (2, .int a1)]) hx hb dX4_parts_47 hl rfl en21.symm (by decide) rfl (fun ls hl => ?_)
        refine lv_goto (pc := 50) (tgt := 7) hx hb dX4_parts_50 (by decide) ?_
        exact ih7 _ (wt_again hd hk6) _ _ _ hW hS (lv_sub hl [3, 4, 5, 1, 0] rfl)
  obtain ⟨k9, hL3⟩ := wt_whC_o hL3
  exact hI10 k9 _ hL3 _ _ _ hW hS (lv_sub hl [2, 3, 4, 1, 0] rfl)
theorem kX4_parts {p : Program} {l : Launch} {e : Env} {R : Room} {s : State} {m : MethodId} {args : Array Value} {below : List Frame} {meth : Method} {c : Code} {H : Heap} {locs : List Loc} {cells slots : Nat} {Q : State → Prop} {cc : ByteArray} {pc : Nat} {ls : Array Slot} {rest : List Value} {H0 : Heap} {nL : Nat} {X : MPar} {lo hi : Nat} {σ : MSt} {a0 : Int32} {a1 : Int32} {out_ : MSt} (hx : p.tables.exec = Jvm.exec) (hb : c.code = cc) (hml : c.maxLocals = nL) (hown : s.vm.findClass RX4 = some m.cls) (hts : ∀ w ∈ lw_all, w.before args s = true) (hK : mK X s) (hJ : mJ X lo hi) (hW : mW X σ H) (hS : va_S (mA lo hi) H0 H locs) (hd : dX4_parts σ a0 a1 = some out_) (hsz : ls.size = nL) (hrm : (rest.map fun v => v.category).sum ≤ 8) (hR : 1 ≤ R.frames ∧ 25 ≤ R.locals) (hcs : cells ≤ R.cells ∧ slots ≤ R.slots) (hdg : decode cc pc = .ok (.invokevirtual 261, 3)) (kk : ∀ (H1 : Heap) (locs1 : List Loc), mW X out_ H1 → va_S (mA lo hi) H0 H1 locs1 → W p l e R s m args below meth c H1 locs1 cells slots Q (F0 m (pc + 3) ls (rest))) : W p l e R s m args below meth c H locs cells slots Q (F0 m pc ls (.int a1 :: .int a0 :: .ref X.1.1 :: rest)) := by
  refine va_callv (va_runV (As := [.int a0, .int a1]) (rest := rest) ⟨hx, hb, hml, hown, hts⟩ (wX4_parts l hJ hd) (cwV 2 hts (lw_V q1865 q1867 qs52 q88 q1868) rfl rfl rfl (by decide +kernel) hR) (mr_pre hK hW) rfl rfl hsz rfl (lv_room hrm) hdg hcs) hS (fun _ _ h => h) (fun _ h => h) (fun u t H1 locs1 ht hvm hp hB hz hk hS1 => ?_)
  have hW1 : mW X out_ t.heap := hB.1
  rw [ht] at hW1
  exact kk H1 locs1 hW1 hS1
noncomputable def bX4_countsIn_1 (a0 : Int32) (a1 : Int32) (a2 : Int32) (v3 : Int32 × MSt) : Option ((Int32 × MSt) ⊕ (MSt)) :=
  if a1 ≤ v3.1 then (some (.inr v3.2)) else (wt_bd (dX4_times v3.2 a0 (a2 - v3.1)) fun w14 => wt_bd (dX4_parts w14 a0 (v3.1 + (1 : Int32))) fun w16 => wt_lt (v3.1 + (1 : Int32)) fun n18 => some (.inl (n18, w16)))
noncomputable def bX4_countsIn_2 (a0 : Int32) (a1 : Int32) (a2 : Int32) (v19 : Int32 × MSt) : Option ((Int32 × MSt) ⊕ (MSt)) :=
  if a2 ≤ v19.1 then (some (.inr v19.2)) else (wt_bd (if a1 ≤ v19.1 then (some ((16 : Int32) - (v19.2.1 11))) else (some (v19.2.1 11))) fun w30 => wt_bd (dX4_times v19.2 a0 w30) fun w35 => wt_lt (v19.1 + (1 : Int32)) fun n37 => some (.inl (n37, w35)))
noncomputable def dX4_countsIn (σ : MSt) (a0 : Int32) (a1 : Int32) (a2 : Int32) : Option (MSt) :=
  wt_lt (m_sF σ 49 ((σ.1 49) + a2)) fun σ1 => if a1 ≤ a2 then (wt_bd (wt_whC (bX4_countsIn_1 a0 a1 a2) ((0 : Int32), σ1)) fun w4 => wt_bd (wt_whC (bX4_countsIn_2 a0 a1 a2) ((0 : Int32), w4)) fun w20 => some w20) else (wt_bd (dX4_times σ1 a0 (0 : Int32)) fun w38 => some w38)
set_option maxHeartbeats 4000000 in
theorem wX4_countsIn (l : Launch) {X : MPar} {lo hi : Nat} (hJ : mJ X lo hi) {σ : MSt} {a0 : Int32} {a1 : Int32} {a2 : Int32} {out_ : MSt} (hd : dX4_countsIn σ a0 a1 a2 = some out_) : Met l yX4_countsIn (ws_ yX4_countsIn cX4_countsIn 5 none) ({ frames := 1, cells := 0, slots := 0, locals := 27 }) (mP X σ [.ref X.1.1, .int a0, .int a1, .int a2]) (mQv X out_ (mA lo hi)) 0 0 (mA lo hi) := by
  refine Met.ofW (cc := cX4_countsIn) (maxL := 5) (ret := none) (by decide) rfl ?_
  intro p_ e_ s_ m_ args_ below_ meth_ c_ s₁_ B hml hv
  obtain ⟨rfl, hW, hK⟩ := hv
  have hx := B.exec
  have hb := B.bytes
  have hr := B.returns
  have hts := atoms_spec (ws := (ws_ yX4_countsIn cX4_countsIn 5 none)) B.pre
  have hts : ∀ w ∈ lw_all, w.before _ s_ = true := fun w h => hts w (List.mem_cons_of_mem _ h)
  have hown : s_.vm.findClass RX4 = some m_.cls := findClass_of_methodNamed B.named
  have hlocks := B.notSynchronized
  have hS : va_S (mA lo hi) s_.heap s_.heap [] := va_S.rf
  have hl := lv_entry ([.ref X.1.1, .int a0, .int a1, .int a2]) (n := 5) (Nat.le_of_ble_eq_true rfl)
  rw [lg_entry_eq]
  generalize (lg_sl ([.ref X.1.1, .int a0, .int a1, .int a2]) ++ List.replicate (5 - (lg_sl ([.ref X.1.1, .int a0, .int a1, .int a2])).length) Slot.unset).toArray = ls at hl ⊢
  have hl : lv_has ls 5 [(0, .ref X.1.1), (1, .int a0), (2, .int a1), (3, .int a2)] := hl
  unfold dX4_countsIn at hd
  refine lv_aload_n (pc := 0) hx hb dX4_countsIn_0 rfl (lv_at hl 0 rfl) ?_
  refine lv_dup (pc := 1) hx hb dX4_countsIn_1 rfl ?_
  refine mr_get (pc := 2) (k := 49) (v := .int ((σ.1 49))) hx hb hts hown hK hW (by decide) rfl q1578 dX4_countsIn_2 ?_
  refine lv_iload_n (pc := 5) hx hb dX4_countsIn_5 rfl (lv_at hl 3 rfl) ?_
  refine lv_iadd (pc := 6) hx hb dX4_countsIn_6 ?_
  obtain ⟨σ1, eσ1, hd⟩ := wt_lt_o hd
  refine mr_put (pc := 7) (k := 49) hx hb hts hown hK hW hJ hS (by decide) rfl eσ1 q1578 dX4_countsIn_7 (fun H locs hW hS => ?_)
  refine lv_iload_n (pc := 10) hx hb dX4_countsIn_10 rfl (lv_at hl 2 rfl) ?_
  refine lv_iload_n (pc := 11) hx hb dX4_countsIn_11 rfl (lv_at hl 3 rfl) ?_
  refine lv_icmp_le (pc := 12) (tgt := 22) hx hb dX4_countsIn_12 (by decide) (fun c2 => ?_) (fun c2 => ?_)
  · have hd := wt_it hd c2
    refine lv_iconst (pc := 22) (v := 0) hx hb dX4_countsIn_22 (by decide) ?_
    refine lv_istore (pc := 23) (lv' := [(4, .int (0 : Int32)), (0, .ref X.1.1), (1, .int a0), (2, .int a1), (3, .int a2)]) hx hb dX4_countsIn_23 hl (by decide) rfl (fun ls hl => ?_)
    obtain ⟨w4, hL5, hq6⟩ := wt_bd_o hd
    have hX7 : ∀ w4_ : MSt, w4_ = w4 → ∀ (H : Heap) (locs : List Loc) (ls : Array Slot), mW X w4_ H → va_S (mA lo hi) s_.heap H locs → lv_has ls 5 [(0, .ref X.1.1), (1, .int a0), (2, .int a1), (3, .int a2)] → W p_ l e_ (headSpec (ws_ yX4_countsIn cX4_countsIn 5 none) ({ frames := 1, cells := 0, slots := 0, locals := 27 })).room s_ m_ ([.ref X.1.1, .int a0, .int a1, .int a2] : List Value).toArray below_ meth_ c_ H locs 0 0 (MQ below_ (mQv X out_ (mA lo hi)) ([.ref X.1.1, .int a0, .int a1, .int a2] : List Value).toArray s_ 0 0 (mA lo hi)) (F0 m_ 55 ls []) := by
      intro w4_ hw_
      have hd := hq6
      subst hw_
      clear hL5 hq6
      intro H locs ls hW hS hl
      refine lv_iconst (pc := 55) (v := 0) hx hb dX4_countsIn_55 (by decide) ?_
      refine lv_istore (pc := 56) (lv' := [(4, .int (0 : Int32)), (0, .ref X.1.1), (1, .int a0), (2, .int a1), (3, .int a2)]) hx hb dX4_countsIn_56 hl (by decide) rfl (fun ls hl => ?_)
      obtain ⟨w20, hL21, hq22⟩ := wt_bd_o hd
      have hX23 : ∀ w20_ : MSt, w20_ = w20 → ∀ (H : Heap) (locs : List Loc) (ls : Array Slot), mW X w20_ H → va_S (mA lo hi) s_.heap H locs → lv_has ls 5 [] → W p_ l e_ (headSpec (ws_ yX4_countsIn cX4_countsIn 5 none) ({ frames := 1, cells := 0, slots := 0, locals := 27 })).room s_ m_ ([.ref X.1.1, .int a0, .int a1, .int a2] : List Value).toArray below_ meth_ c_ H locs 0 0 (MQ below_ (mQv X out_ (mA lo hi)) ([.ref X.1.1, .int a0, .int a1, .int a2] : List Value).toArray s_ 0 0 (mA lo hi)) (F0 m_ 95 ls []) := by
        intro w20_ hw_
        have hd := hq22
        subst hw_
        clear hL21 hq22
        intro H locs ls hW hS hl
        exact mr_vret hx hb hr hlocks (Option.some.inj hd) hW hK hS dX4_countsIn_95
      have hI28 : ∀ (k27 : Nat) (v19 : Int32 × MSt), wt_wh (bX4_countsIn_2 a0 a1 a2) k27 v19 = some w20 → ∀ (H : Heap) (locs : List Loc) (ls : Array Slot), mW X v19.2 H → va_S (mA lo hi) s_.heap H locs → lv_has ls 5 [(0, .ref X.1.1), (1, .int a0), (2, .int a1), (3, .int a2), (4, .int v19.1)] → W p_ l e_ (headSpec (ws_ yX4_countsIn cX4_countsIn 5 none) ({ frames := 1, cells := 0, slots := 0, locals := 27 })).room s_ m_ ([.ref X.1.1, .int a0, .int a1, .int a2] : List Value).toArray below_ meth_ c_ H locs 0 0 (MQ below_ (mQv X out_ (mA lo hi)) ([.ref X.1.1, .int a0, .int a1, .int a2] : List Value).toArray s_ 0 0 (mA lo hi)) (F0 m_ 58 ls []) := by
        intro k27
        induction k27 with
        | zero => intro v19 hd; exact absurd hd wt_wh_z
        | succ k27 ih25 =>
          intro v19 hd
          intro H locs ls hW hS hl
          obtain ⟨r26, hd, hk24⟩ := wt_wh_o hd
          unfold bX4_countsIn_2 at hd
          refine lv_iload (pc := 58) hx hb dX4_countsIn_58 (lv_at hl 4 rfl) ?_
          refine lv_iload_n (pc := 60) hx hb dX4_countsIn_60 rfl (lv_at hl 3 rfl) ?_
          refine lv_icmp_ge (pc := 61) (tgt := 95) hx hb dX4_countsIn_61 (by decide) (fun c29 => ?_) (fun c29 => ?_)
          · have hd := wt_it hd c29
            exact hX23 v19.2 (wt_exit hd hk24) _ _ _ hW hS (lv_sub hl [] rfl)
          · have hd := wt_if hd c29
            refine lv_aload_n (pc := 64) hx hb dX4_countsIn_64 rfl (lv_at hl 0 rfl) ?_
            refine lv_iload_n (pc := 65) hx hb dX4_countsIn_65 rfl (lv_at hl 1 rfl) ?_
            refine lv_iload (pc := 66) hx hb dX4_countsIn_66 (lv_at hl 4 rfl) ?_
            refine lv_iload_n (pc := 68) hx hb dX4_countsIn_68 rfl (lv_at hl 2 rfl) ?_
            obtain ⟨w30, hj31, hq32⟩ := wt_bd_o hd
            have hX33 : ∀ w30_ : Int32, w30_ = w30 → ∀ (H : Heap) (locs : List Loc) (ls : Array Slot), mW X v19.2 H → va_S (mA lo hi) s_.heap H locs → lv_has ls 5 [(0, .ref X.1.1), (1, .int a0), (2, .int a1), (3, .int a2), (4, .int v19.1)] → W p_ l e_ (headSpec (ws_ yX4_countsIn cX4_countsIn 5 none) ({ frames := 1, cells := 0, slots := 0, locals := 27 })).room s_ m_ ([.ref X.1.1, .int a0, .int a1, .int a2] : List Value).toArray below_ meth_ c_ H locs 0 0 (MQ below_ (mQv X out_ (mA lo hi)) ([.ref X.1.1, .int a0, .int a1, .int a2] : List Value).toArray s_ 0 0 (mA lo hi)) (F0 m_ 86 ls [.int w30_, .int a0, .ref X.1.1]) := by
              intro w30_ hw_
              have hd := hq32
              subst hw_
              clear hj31 hq32
              intro H locs ls hW hS hl
              obtain ⟨w35, hc36, hd⟩ := wt_bd_o hd
              refine kX4_times (pc := 86) hx hb hml hown hts hK hJ hW hS hc36 hl.1 (Nat.le_of_ble_eq_true rfl) ⟨Nat.le_of_ble_eq_true rfl, Nat.le_of_ble_eq_true rfl⟩ ⟨Nat.le_refl _, Nat.le_refl _⟩ dX4_countsIn_86 (fun H locs hW hS => ?_)
              obtain ⟨n37, en37, hd⟩ := wt_lt_o hd
              refine lv_iinc (pc := 89) (k := 4) (v := n37) (lv' := [(4, .int n37), (0, .ref X.1.1), (1, .int a0), (2, .int a1), (3, .int a2)]) hx hb dX4_countsIn_89 hl rfl en37.symm (by decide) rfl (fun ls hl => ?_)
              refine lv_goto (pc := 92) (tgt := 58) hx hb dX4_countsIn_92 (by decide) ?_
              exact ih25 _ (wt_again hd hk24) _ _ _ hW hS (lv_sub hl [1, 2, 3, 4, 0] rfl)
            have hd := hj31
            refine lv_icmp_ge (pc := 69) (tgt := 79) hx hb dX4_countsIn_69 (by decide) (fun c34 => ?_) (fun c34 => ?_)
            · have hd := wt_it hd c34
              refine lv_bipush (pc := 79) (v := 16) hx hb dX4_countsIn_79 (by decide) ?_
              refine lv_aload_n (pc := 81) hx hb dX4_countsIn_81 rfl (lv_at hl 0 rfl) ?_
              refine mr_get (pc := 82) (k := 11) (v := .int ((v19.2.1 11))) hx hb hts hown hK hW (by decide) rfl q1540 dX4_countsIn_82 ?_
              refine lv_isub (pc := 85) hx hb dX4_countsIn_85 ?_
              exact hX33 ((16 : Int32) - (v19.2.1 11)) (Option.some.inj hd) _ _ _ hW hS hl
            · have hd := wt_if hd c34
              refine lv_aload_n (pc := 72) hx hb dX4_countsIn_72 rfl (lv_at hl 0 rfl) ?_
              refine mr_get (pc := 73) (k := 11) (v := .int ((v19.2.1 11))) hx hb hts hown hK hW (by decide) rfl q1540 dX4_countsIn_73 ?_
              refine lv_goto (pc := 76) (tgt := 86) hx hb dX4_countsIn_76 (by decide) ?_
              exact hX33 (v19.2.1 11) (Option.some.inj hd) _ _ _ hW hS hl
      obtain ⟨k27, hL21⟩ := wt_whC_o hL21
      exact hI28 k27 _ hL21 _ _ _ hW hS (lv_sub hl [1, 2, 3, 4, 0] rfl)
    have hI12 : ∀ (k11 : Nat) (v3 : Int32 × MSt), wt_wh (bX4_countsIn_1 a0 a1 a2) k11 v3 = some w4 → ∀ (H : Heap) (locs : List Loc) (ls : Array Slot), mW X v3.2 H → va_S (mA lo hi) s_.heap H locs → lv_has ls 5 [(0, .ref X.1.1), (1, .int a0), (2, .int a1), (3, .int a2), (4, .int v3.1)] → W p_ l e_ (headSpec (ws_ yX4_countsIn cX4_countsIn 5 none) ({ frames := 1, cells := 0, slots := 0, locals := 27 })).room s_ m_ ([.ref X.1.1, .int a0, .int a1, .int a2] : List Value).toArray below_ meth_ c_ H locs 0 0 (MQ below_ (mQv X out_ (mA lo hi)) ([.ref X.1.1, .int a0, .int a1, .int a2] : List Value).toArray s_ 0 0 (mA lo hi)) (F0 m_ 25 ls []) := by
      intro k11
      induction k11 with
      | zero => intro v3 hd; exact absurd hd wt_wh_z
      | succ k11 ih9 =>
        intro v3 hd
        intro H locs ls hW hS hl
        obtain ⟨r10, hd, hk8⟩ := wt_wh_o hd
        unfold bX4_countsIn_1 at hd
        refine lv_iload (pc := 25) hx hb dX4_countsIn_25 (lv_at hl 4 rfl) ?_
        refine lv_iload_n (pc := 27) hx hb dX4_countsIn_27 rfl (lv_at hl 2 rfl) ?_
        refine lv_icmp_ge (pc := 28) (tgt := 55) hx hb dX4_countsIn_28 (by decide) (fun c13 => ?_) (fun c13 => ?_)
        · have hd := wt_it hd c13
          exact hX7 v3.2 (wt_exit hd hk8) _ _ _ hW hS (lv_sub hl [0, 1, 2, 3] rfl)
        · have hd := wt_if hd c13
          refine lv_aload_n (pc := 31) hx hb dX4_countsIn_31 rfl (lv_at hl 0 rfl) ?_
          refine lv_iload_n (pc := 32) hx hb dX4_countsIn_32 rfl (lv_at hl 1 rfl) ?_
          refine lv_iload_n (pc := 33) hx hb dX4_countsIn_33 rfl (lv_at hl 3 rfl) ?_
          refine lv_iload (pc := 34) hx hb dX4_countsIn_34 (lv_at hl 4 rfl) ?_
          refine lv_isub (pc := 36) hx hb dX4_countsIn_36 ?_
          obtain ⟨w14, hc15, hd⟩ := wt_bd_o hd
          refine kX4_times (pc := 37) hx hb hml hown hts hK hJ hW hS hc15 hl.1 (Nat.le_of_ble_eq_true rfl) ⟨Nat.le_of_ble_eq_true rfl, Nat.le_of_ble_eq_true rfl⟩ ⟨Nat.le_refl _, Nat.le_refl _⟩ dX4_countsIn_37 (fun H locs hW hS => ?_)
          refine lv_aload_n (pc := 40) hx hb dX4_countsIn_40 rfl (lv_at hl 0 rfl) ?_
          refine lv_iload_n (pc := 41) hx hb dX4_countsIn_41 rfl (lv_at hl 1 rfl) ?_
          refine lv_iload (pc := 42) hx hb dX4_countsIn_42 (lv_at hl 4 rfl) ?_
          refine lv_iconst (pc := 44) (v := 1) hx hb dX4_countsIn_44 (by decide) ?_
          refine lv_iadd (pc := 45) hx hb dX4_countsIn_45 ?_
          obtain ⟨w16, hc17, hd⟩ := wt_bd_o hd
          refine kX4_parts (pc := 46) hx hb hml hown hts hK hJ hW hS hc17 hl.1 (Nat.le_of_ble_eq_true rfl) ⟨Nat.le_of_ble_eq_true rfl, Nat.le_of_ble_eq_true rfl⟩ ⟨Nat.le_refl _, Nat.le_refl _⟩ dX4_countsIn_46 (fun H locs hW hS => ?_)
          obtain ⟨n18, en18, hd⟩ := wt_lt_o hd
          refine lv_iinc (pc := 49) (k := 4) (v := n18) (lv' := [(4, .int n18), (0, .ref X.1.1), (1, .int a0), (2, .int a1), (3, .int a2)]) hx hb dX4_countsIn_49 hl rfl en18.symm (by decide) rfl (fun ls hl => ?_)
          refine lv_goto (pc := 52) (tgt := 25) hx hb dX4_countsIn_52 (by decide) ?_
          exact ih9 _ (wt_again hd hk8) _ _ _ hW hS (lv_sub hl [1, 2, 3, 4, 0] rfl)
    obtain ⟨k11, hL5⟩ := wt_whC_o hL5
    exact hI12 k11 _ hL5 _ _ _ hW hS (lv_sub hl [1, 2, 3, 4, 0] rfl)
  · have hd := wt_if hd c2
    refine lv_aload_n (pc := 15) hx hb dX4_countsIn_15 rfl (lv_at hl 0 rfl) ?_
    refine lv_iload_n (pc := 16) hx hb dX4_countsIn_16 rfl (lv_at hl 1 rfl) ?_
    refine lv_iconst (pc := 17) (v := 0) hx hb dX4_countsIn_17 (by decide) ?_
    obtain ⟨w38, hc39, hd⟩ := wt_bd_o hd
    refine kX4_times (pc := 18) hx hb hml hown hts hK hJ hW hS hc39 hl.1 (Nat.le_of_ble_eq_true rfl) ⟨Nat.le_of_ble_eq_true rfl, Nat.le_of_ble_eq_true rfl⟩ ⟨Nat.le_refl _, Nat.le_refl _⟩ dX4_countsIn_18 (fun H locs hW hS => ?_)
    exact mr_vret hx hb hr hlocks (Option.some.inj hd) hW hK hS dX4_countsIn_21
theorem kX4_countsIn {p : Program} {l : Launch} {e : Env} {R : Room} {s : State} {m : MethodId} {args : Array Value} {below : List Frame} {meth : Method} {c : Code} {H : Heap} {locs : List Loc} {cells slots : Nat} {Q : State → Prop} {cc : ByteArray} {pc : Nat} {ls : Array Slot} {rest : List Value} {H0 : Heap} {nL : Nat} {X : MPar} {lo hi : Nat} {σ : MSt} {a0 : Int32} {a1 : Int32} {a2 : Int32} {out_ : MSt} (hx : p.tables.exec = Jvm.exec) (hb : c.code = cc) (hml : c.maxLocals = nL) (hown : s.vm.findClass RX4 = some m.cls) (hts : ∀ w ∈ lw_all, w.before args s = true) (hK : mK X s) (hJ : mJ X lo hi) (hW : mW X σ H) (hS : va_S (mA lo hi) H0 H locs) (hd : dX4_countsIn σ a0 a1 a2 = some out_) (hsz : ls.size = nL) (hrm : (rest.map fun v => v.category).sum ≤ 8) (hR : 2 ≤ R.frames ∧ 51 ≤ R.locals) (hcs : cells ≤ R.cells ∧ slots ≤ R.slots) (hdg : decode cc pc = .ok (.invokevirtual 264, 3)) (kk : ∀ (H1 : Heap) (locs1 : List Loc), mW X out_ H1 → va_S (mA lo hi) H0 H1 locs1 → W p l e R s m args below meth c H1 locs1 cells slots Q (F0 m (pc + 3) ls (rest))) : W p l e R s m args below meth c H locs cells slots Q (F0 m pc ls (.int a2 :: .int a1 :: .int a0 :: .ref X.1.1 :: rest)) := by
  refine va_callv (va_runV (As := [.int a0, .int a1, .int a2]) (rest := rest) ⟨hx, hb, hml, hown, hts⟩ (wX4_countsIn l hJ hd) (cwV 3 hts (lw_V q1856 q1858 qs50 q88 q1859) rfl rfl rfl (by decide +kernel) hR) (mr_pre hK hW) rfl rfl hsz rfl (lv_room hrm) hdg hcs) hS (fun _ _ h => h) (fun _ h => h) (fun u t H1 locs1 ht hvm hp hB hz hk hS1 => ?_)
  have hW1 : mW X out_ t.heap := hB.1
  rw [ht] at hW1
  exact kk H1 locs1 hW1 hS1
noncomputable def bX4_numbers_1 (a0 : Int32) (v2 : Int32 × MSt) : Option ((Int32 × MSt) ⊕ (MSt)) :=
  if (330 : Int32) ≤ v2.1 then (some (.inr v2.2)) else (wt_ck (vp_in a0 3) <| if v2.1 = 0 then (wt_ck (vp_in v2.1 330) <| wt_lt (m_sG v2.2 48 (a0.toNatClampNeg) v2.1.toNatClampNeg (1 : Int32)) fun σ19 => wt_lt (v2.1 + (1 : Int32)) fun n20 => some (.inl (n20, σ19))) else (wt_ck (vp_in v2.1 330) <| wt_lt (m_sG v2.2 48 (a0.toNatClampNeg) v2.1.toNatClampNeg (0 : Int32)) fun σ16 => wt_lt (v2.1 + (1 : Int32)) fun n17 => some (.inl (n17, σ16))))
noncomputable def bX4_numbers_2 (a0 : Int32) (a1 : Int32) (a2 : Int32) (v21 : Int32 × MSt) : Option ((Int32 × MSt) ⊕ (MSt)) :=
  if (v21.2.1 28) ≤ v21.1 then (some (.inr v21.2)) else (wt_bd (if a2 = (-1 : Int32) then (some (.inl ())) else (if v21.1 = a2 then (some (.inl ())) else (wt_lt (v21.1 + (1 : Int32)) fun n38 => some (.inr (.inl (n38, v21.2)))))) fun w32 => wt_rs w32 (fun w32 => wt_ck (vp_in v21.1 8) <| wt_ck (vp_in (1 : Int32) 4) <| wt_bd (dX4_runs v21.2 a1 (v21.2.2.2 32 (v21.1.toNatClampNeg) (1 : Int32).toNatClampNeg)) fun w41 => wt_ck (vp_in v21.1 8) <| wt_ck (vp_in (3 : Int32) 4) <| wt_ck (vp_in v21.1 8) <| wt_ck (vp_in (0 : Int32) 4) <| wt_ck (vp_in v21.1 8) <| wt_ck (vp_in (2 : Int32) 4) <| wt_bd (dX4_pileAt w41 (w41.2.2 32 (v21.1.toNatClampNeg) (0 : Int32).toNatClampNeg) (w41.2.2 32 (v21.1.toNatClampNeg) (2 : Int32).toNatClampNeg)) fun w49 => wt_bd (dX4_countsIn w41 a0 (w41.2.2 32 (v21.1.toNatClampNeg) (3 : Int32).toNatClampNeg) w49) fun w51 => wt_lt (v21.1 + (1 : Int32)) fun n53 => some (.inl (n53, w51))) (fun z_ => some z_))
noncomputable def dX4_numbers (σ : MSt) (a0 : Int32) (a1 : Int32) (a2 : Int32) : Option (MSt) :=
  wt_lt (m_sF σ 49 (0 : Int32)) fun σ1 => wt_bd (wt_whC (bX4_numbers_1 a0) ((0 : Int32), σ1)) fun w3 => wt_bd (wt_whC (bX4_numbers_2 a0 a1 a2) ((0 : Int32), w3)) fun w22 => some w22
set_option maxHeartbeats 4000000 in
theorem wX4_numbers (l : Launch) {X : MPar} {lo hi : Nat} (hJ : mJ X lo hi) {σ : MSt} {a0 : Int32} {a1 : Int32} {a2 : Int32} {out_ : MSt} (hd : dX4_numbers σ a0 a1 a2 = some out_) : Met l yX4_numbers (ws_ yX4_numbers cX4_numbers 5 none) ({ frames := 4, cells := 0, slots := 0, locals := 98 }) (mP X σ [.ref X.1.1, .int a0, .int a1, .int a2]) (mQv X out_ (mA lo hi)) 0 0 (mA lo hi) := by
  refine Met.ofW (cc := cX4_numbers) (maxL := 5) (ret := none) (by decide) rfl ?_
  intro p_ e_ s_ m_ args_ below_ meth_ c_ s₁_ B hml hv
  obtain ⟨rfl, hW, hK⟩ := hv
  have hx := B.exec
  have hb := B.bytes
  have hr := B.returns
  have hts := atoms_spec (ws := (ws_ yX4_numbers cX4_numbers 5 none)) B.pre
  have hts : ∀ w ∈ lw_all, w.before _ s_ = true := fun w h => hts w (List.mem_cons_of_mem _ h)
  have hown : s_.vm.findClass RX4 = some m_.cls := findClass_of_methodNamed B.named
  have hlocks := B.notSynchronized
  have hS : va_S (mA lo hi) s_.heap s_.heap [] := va_S.rf
  have hl := lv_entry ([.ref X.1.1, .int a0, .int a1, .int a2]) (n := 5) (Nat.le_of_ble_eq_true rfl)
  rw [lg_entry_eq]
  generalize (lg_sl ([.ref X.1.1, .int a0, .int a1, .int a2]) ++ List.replicate (5 - (lg_sl ([.ref X.1.1, .int a0, .int a1, .int a2])).length) Slot.unset).toArray = ls at hl ⊢
  have hl : lv_has ls 5 [(0, .ref X.1.1), (1, .int a0), (2, .int a1), (3, .int a2)] := hl
  unfold dX4_numbers at hd
  refine lv_aload_n (pc := 0) hx hb dX4_numbers_0 rfl (lv_at hl 0 rfl) ?_
  refine lv_iconst (pc := 1) (v := 0) hx hb dX4_numbers_1 (by decide) ?_
  obtain ⟨σ1, eσ1, hd⟩ := wt_lt_o hd
  refine mr_put (pc := 2) (k := 49) hx hb hts hown hK hW hJ hS (by decide) rfl eσ1 q1578 dX4_numbers_2 (fun H locs hW hS => ?_)
  refine lv_iconst (pc := 5) (v := 0) hx hb dX4_numbers_5 (by decide) ?_
  refine lv_istore (pc := 6) (lv' := [(4, .int (0 : Int32)), (0, .ref X.1.1), (1, .int a0), (2, .int a1), (3, .int a2)]) hx hb dX4_numbers_6 hl (by decide) rfl (fun ls hl => ?_)
  obtain ⟨w3, hL4, hq5⟩ := wt_bd_o hd
  have hX6 : ∀ w3_ : MSt, w3_ = w3 → ∀ (H : Heap) (locs : List Loc) (ls : Array Slot), mW X w3_ H → va_S (mA lo hi) s_.heap H locs → lv_has ls 5 [(0, .ref X.1.1), (1, .int a0), (2, .int a1), (3, .int a2)] → W p_ l e_ (headSpec (ws_ yX4_numbers cX4_numbers 5 none) ({ frames := 4, cells := 0, slots := 0, locals := 98 })).room s_ m_ ([.ref X.1.1, .int a0, .int a1, .int a2] : List Value).toArray below_ meth_ c_ H locs 0 0 (MQ below_ (mQv X out_ (mA lo hi)) ([.ref X.1.1, .int a0, .int a1, .int a2] : List Value).toArray s_ 0 0 (mA lo hi)) (F0 m_ 41 ls []) := by
    intro w3_ hw_
    have hd := hq5
    subst hw_
    clear hL4 hq5
    intro H locs ls hW hS hl
    refine lv_iconst (pc := 41) (v := 0) hx hb dX4_numbers_41 (by decide) ?_
    refine lv_istore (pc := 42) (lv' := [(4, .int (0 : Int32)), (0, .ref X.1.1), (1, .int a0), (2, .int a1), (3, .int a2)]) hx hb dX4_numbers_42 hl (by decide) rfl (fun ls hl => ?_)
    obtain ⟨w22, hL23, hq24⟩ := wt_bd_o hd
    have hX25 : ∀ w22_ : MSt, w22_ = w22 → ∀ (H : Heap) (locs : List Loc) (ls : Array Slot), mW X w22_ H → va_S (mA lo hi) s_.heap H locs → lv_has ls 5 [] → W p_ l e_ (headSpec (ws_ yX4_numbers cX4_numbers 5 none) ({ frames := 4, cells := 0, slots := 0, locals := 98 })).room s_ m_ ([.ref X.1.1, .int a0, .int a1, .int a2] : List Value).toArray below_ meth_ c_ H locs 0 0 (MQ below_ (mQv X out_ (mA lo hi)) ([.ref X.1.1, .int a0, .int a1, .int a2] : List Value).toArray s_ 0 0 (mA lo hi)) (F0 m_ 123 ls []) := by
      intro w22_ hw_
      have hd := hq24
      subst hw_
      clear hL23 hq24
      intro H locs ls hW hS hl
      exact mr_vret hx hb hr hlocks (Option.some.inj hd) hW hK hS dX4_numbers_123
    have hI30 : ∀ (k29 : Nat) (v21 : Int32 × MSt), wt_wh (bX4_numbers_2 a0 a1 a2) k29 v21 = some w22 → ∀ (H : Heap) (locs : List Loc) (ls : Array Slot), mW X v21.2 H → va_S (mA lo hi) s_.heap H locs → lv_has ls 5 [(0, .ref X.1.1), (1, .int a0), (2, .int a1), (3, .int a2), (4, .int v21.1)] → W p_ l e_ (headSpec (ws_ yX4_numbers cX4_numbers 5 none) ({ frames := 4, cells := 0, slots := 0, locals := 98 })).room s_ m_ ([.ref X.1.1, .int a0, .int a1, .int a2] : List Value).toArray below_ meth_ c_ H locs 0 0 (MQ below_ (mQv X out_ (mA lo hi)) ([.ref X.1.1, .int a0, .int a1, .int a2] : List Value).toArray s_ 0 0 (mA lo hi)) (F0 m_ 44 ls []) := by
      intro k29
      induction k29 with
      | zero => intro v21 hd; exact absurd hd wt_wh_z
      | succ k29 ih27 =>
        intro v21 hd
        intro H locs ls hW hS hl
        obtain ⟨r28, hd, hk26⟩ := wt_wh_o hd
        unfold bX4_numbers_2 at hd
        refine lv_iload (pc := 44) hx hb dX4_numbers_44 (lv_at hl 4 rfl) ?_
        refine lv_aload_n (pc := 46) hx hb dX4_numbers_46 rfl (lv_at hl 0 rfl) ?_
        refine mr_get (pc := 47) (k := 28) (v := .int ((v21.2.1 28))) hx hb hts hown hK hW (by decide) rfl q1557 dX4_numbers_47 ?_
        refine lv_icmp_ge (pc := 50) (tgt := 123) hx hb dX4_numbers_50 (by decide) (fun c31 => ?_) (fun c31 => ?_)
        · have hd := wt_it hd c31
          exact hX25 v21.2 (wt_exit hd hk26) _ _ _ hW hS (lv_sub hl [] rfl)
        · have hd := wt_if hd c31
          refine lv_iload_n (pc := 53) hx hb dX4_numbers_53 rfl (lv_at hl 3 rfl) ?_
          refine lv_iconst (pc := 54) (v := -1) hx hb dX4_numbers_54 (by decide) ?_
          obtain ⟨w32, hj33, hq34⟩ := wt_bd_o hd
          have hX35 : ∀ w32_ : Unit, (Sum.inl w32_ : Unit ⊕ _) = w32 → ∀ (H : Heap) (locs : List Loc) (ls : Array Slot), mW X v21.2 H → va_S (mA lo hi) s_.heap H locs → lv_has ls 5 [(0, .ref X.1.1), (1, .int a0), (2, .int a1), (3, .int a2), (4, .int v21.1)] → W p_ l e_ (headSpec (ws_ yX4_numbers cX4_numbers 5 none) ({ frames := 4, cells := 0, slots := 0, locals := 98 })).room s_ m_ ([.ref X.1.1, .int a0, .int a1, .int a2] : List Value).toArray below_ meth_ c_ H locs 0 0 (MQ below_ (mQv X out_ (mA lo hi)) ([.ref X.1.1, .int a0, .int a1, .int a2] : List Value).toArray s_ 0 0 (mA lo hi)) (F0 m_ 67 ls []) := by
            intro w32_ hw_
            have hd := wt_rs_l hw_ hq34
            clear hj33 hq34
            intro H locs ls hW hS hl
            refine lv_aload_n (pc := 67) hx hb dX4_numbers_67 rfl (lv_at hl 0 rfl) ?_
            refine lv_iload_n (pc := 68) hx hb dX4_numbers_68 rfl (lv_at hl 2 rfl) ?_
            refine lv_aload_n (pc := 69) hx hb dX4_numbers_69 rfl (lv_at hl 0 rfl) ?_
            refine mr_get (pc := 70) (k := 32) (v := .ref (X.1.2.1 32)) hx hb hts hown hK hW (by decide) rfl q1561 dX4_numbers_70 ?_
            refine lv_iload (pc := 73) hx hb dX4_numbers_73 (lv_at hl 4 rfl) ?_
            obtain ⟨h39, hd⟩ := wt_ck_o hd
            refine mr_row (pc := 75) (k := 32) hx hb hK hW rfl h39 dX4_numbers_75 ?_
            refine lv_iconst (pc := 76) (v := 1) hx hb dX4_numbers_76 (by decide) ?_
            obtain ⟨h40, hd⟩ := wt_ck_o hd
            refine mr_gld (pc := 77) (k := 32) (i := (v21.1.toNatClampNeg)) hx hb hK hW (vp_lt h39) rfl h40 dX4_numbers_77 ?_
            obtain ⟨w41, hc42, hd⟩ := wt_bd_o hd
            refine kX4_runs (pc := 78) hx hb hml hown hts hK hJ hW hS hc42 hl.1 (Nat.le_of_ble_eq_true rfl) ⟨Nat.le_of_ble_eq_true rfl, Nat.le_of_ble_eq_true rfl⟩ ⟨Nat.le_refl _, Nat.le_refl _⟩ dX4_numbers_78 (fun H locs hW hS => ?_)
            refine lv_aload_n (pc := 81) hx hb dX4_numbers_81 rfl (lv_at hl 0 rfl) ?_
            refine lv_iload_n (pc := 82) hx hb dX4_numbers_82 rfl (lv_at hl 1 rfl) ?_
            refine lv_aload_n (pc := 83) hx hb dX4_numbers_83 rfl (lv_at hl 0 rfl) ?_
            refine mr_get (pc := 84) (k := 32) (v := .ref (X.1.2.1 32)) hx hb hts hown hK hW (by decide) rfl q1561 dX4_numbers_84 ?_
            refine lv_iload (pc := 87) hx hb dX4_numbers_87 (lv_at hl 4 rfl) ?_
            obtain ⟨h43, hd⟩ := wt_ck_o hd
            refine mr_row (pc := 89) (k := 32) hx hb hK hW rfl h43 dX4_numbers_89 ?_
            refine lv_iconst (pc := 90) (v := 3) hx hb dX4_numbers_90 (by decide) ?_
            obtain ⟨h44, hd⟩ := wt_ck_o hd
            refine mr_gld (pc := 91) (k := 32) (i := (v21.1.toNatClampNeg)) hx hb hK hW (vp_lt h43) rfl h44 dX4_numbers_91 ?_
            refine lv_aload_n (pc := 92) hx hb dX4_numbers_92 rfl (lv_at hl 0 rfl) ?_
            refine lv_aload_n (pc := 93) hx hb dX4_numbers_93 rfl (lv_at hl 0 rfl) ?_
            refine mr_get (pc := 94) (k := 32) (v := .ref (X.1.2.1 32)) hx hb hts hown hK hW (by decide) rfl q1561 dX4_numbers_94 ?_
            refine lv_iload (pc := 97) hx hb dX4_numbers_97 (lv_at hl 4 rfl) ?_
            obtain ⟨h45, hd⟩ := wt_ck_o hd
            refine mr_row (pc := 99) (k := 32) hx hb hK hW rfl h45 dX4_numbers_99 ?_
            refine lv_iconst (pc := 100) (v := 0) hx hb dX4_numbers_100 (by decide) ?_
            obtain ⟨h46, hd⟩ := wt_ck_o hd
            refine mr_gld (pc := 101) (k := 32) (i := (v21.1.toNatClampNeg)) hx hb hK hW (vp_lt h45) rfl h46 dX4_numbers_101 ?_
            refine lv_aload_n (pc := 102) hx hb dX4_numbers_102 rfl (lv_at hl 0 rfl) ?_
            refine mr_get (pc := 103) (k := 32) (v := .ref (X.1.2.1 32)) hx hb hts hown hK hW (by decide) rfl q1561 dX4_numbers_103 ?_
            refine lv_iload (pc := 106) hx hb dX4_numbers_106 (lv_at hl 4 rfl) ?_
            obtain ⟨h47, hd⟩ := wt_ck_o hd
            refine mr_row (pc := 108) (k := 32) hx hb hK hW rfl h47 dX4_numbers_108 ?_
            refine lv_iconst (pc := 109) (v := 2) hx hb dX4_numbers_109 (by decide) ?_
            obtain ⟨h48, hd⟩ := wt_ck_o hd
            refine mr_gld (pc := 110) (k := 32) (i := (v21.1.toNatClampNeg)) hx hb hK hW (vp_lt h47) rfl h48 dX4_numbers_110 ?_
            obtain ⟨w49, hc50, hd⟩ := wt_bd_o hd
            refine kX4_pileAt (pc := 111) hx hb hml hown hts hK hJ hW hS hc50 hl.1 (Nat.le_of_ble_eq_true rfl) ⟨Nat.le_of_ble_eq_true rfl, Nat.le_of_ble_eq_true rfl⟩ ⟨Nat.le_refl _, Nat.le_refl _⟩ dX4_numbers_111 (fun H locs hW hS => ?_)
            obtain ⟨w51, hc52, hd⟩ := wt_bd_o hd
            refine kX4_countsIn (pc := 114) hx hb hml hown hts hK hJ hW hS hc52 hl.1 (Nat.le_of_ble_eq_true rfl) ⟨Nat.le_of_ble_eq_true rfl, Nat.le_of_ble_eq_true rfl⟩ ⟨Nat.le_refl _, Nat.le_refl _⟩ dX4_numbers_114 (fun H locs hW hS => ?_)
            obtain ⟨n53, en53, hd⟩ := wt_lt_o hd
            refine lv_iinc (pc := 117) (k := 4) (v := n53) (lv' := [(4, .int n53), (0, .ref X.1.1), (1, .int a0), (2, .int a1), (3, .int a2)]) hx hb dX4_numbers_117 hl rfl en53.symm (by decide) rfl (fun ls hl => ?_)
            refine lv_goto (pc := 120) (tgt := 44) hx hb dX4_numbers_120 (by decide) ?_
            exact ih27 _ (wt_again hd hk26) _ _ _ hW hS (lv_sub hl [1, 2, 3, 4, 0] rfl)
          have hd := hj33
          refine lv_icmp_eq (pc := 55) (tgt := 67) hx hb dX4_numbers_55 (by decide) (fun c36 => ?_) (fun c36 => ?_)
          · have hd := wt_it hd c36
            exact hX35 () (Option.some.inj hd) _ _ _ hW hS hl
          · have hd := wt_if hd c36
            refine lv_iload (pc := 58) hx hb dX4_numbers_58 (lv_at hl 4 rfl) ?_
            refine lv_iload_n (pc := 60) hx hb dX4_numbers_60 rfl (lv_at hl 3 rfl) ?_
            refine lv_icmp_eq (pc := 61) (tgt := 67) hx hb dX4_numbers_61 (by decide) (fun c37 => ?_) (fun c37 => ?_)
            · have hd := wt_it hd c37
              exact hX35 () (Option.some.inj hd) _ _ _ hW hS hl
            · have hd := wt_if hd c37
              refine lv_goto (pc := 64) (tgt := 117) hx hb dX4_numbers_64 (by decide) ?_
              obtain ⟨n38, en38, hd⟩ := wt_lt_o hd
              refine lv_iinc (pc := 117) (k := 4) (v := n38) (lv' := [(4, .int n38), (0, .ref X.1.1), (1, .int a0), (2, .int a1), (3, .int a2)]) hx hb dX4_numbers_117 hl rfl en38.symm (by decide) rfl (fun ls hl => ?_)
              refine lv_goto (pc := 120) (tgt := 44) hx hb dX4_numbers_120 (by decide) ?_
              have hd := wt_rs_r (Option.some.inj hd) hq34
              exact ih27 _ (wt_again hd hk26) _ _ _ hW hS (lv_sub hl [1, 2, 3, 4, 0] rfl)
    obtain ⟨k29, hL23⟩ := wt_whC_o hL23
    exact hI30 k29 _ hL23 _ _ _ hW hS (lv_sub hl [1, 2, 3, 4, 0] rfl)
  have hI11 : ∀ (k10 : Nat) (v2 : Int32 × MSt), wt_wh (bX4_numbers_1 a0) k10 v2 = some w3 → ∀ (H : Heap) (locs : List Loc) (ls : Array Slot), mW X v2.2 H → va_S (mA lo hi) s_.heap H locs → lv_has ls 5 [(0, .ref X.1.1), (1, .int a0), (2, .int a1), (3, .int a2), (4, .int v2.1)] → W p_ l e_ (headSpec (ws_ yX4_numbers cX4_numbers 5 none) ({ frames := 4, cells := 0, slots := 0, locals := 98 })).room s_ m_ ([.ref X.1.1, .int a0, .int a1, .int a2] : List Value).toArray below_ meth_ c_ H locs 0 0 (MQ below_ (mQv X out_ (mA lo hi)) ([.ref X.1.1, .int a0, .int a1, .int a2] : List Value).toArray s_ 0 0 (mA lo hi)) (F0 m_ 8 ls []) := by
    intro k10
    induction k10 with
    | zero => intro v2 hd; exact absurd hd wt_wh_z
    | succ k10 ih8 =>
      intro v2 hd
      intro H locs ls hW hS hl
      obtain ⟨r9, hd, hk7⟩ := wt_wh_o hd
      unfold bX4_numbers_1 at hd
      refine lv_iload (pc := 8) hx hb dX4_numbers_8 (lv_at hl 4 rfl) ?_
      refine lv_sipush (pc := 10) (v := 330) hx hb dX4_numbers_10 (by decide) ?_
      refine lv_icmp_ge (pc := 13) (tgt := 41) hx hb dX4_numbers_13 (by decide) (fun c12 => ?_) (fun c12 => ?_)
      · have hd := wt_it hd c12
        exact hX6 v2.2 (wt_exit hd hk7) _ _ _ hW hS (lv_sub hl [0, 1, 2, 3] rfl)
      · have hd := wt_if hd c12
        refine lv_aload_n (pc := 16) hx hb dX4_numbers_16 rfl (lv_at hl 0 rfl) ?_
        refine mr_get (pc := 17) (k := 48) (v := .ref (X.1.2.1 48)) hx hb hts hown hK hW (by decide) rfl q1577 dX4_numbers_17 ?_
        refine lv_iload_n (pc := 20) hx hb dX4_numbers_20 rfl (lv_at hl 1 rfl) ?_
        obtain ⟨h13, hd⟩ := wt_ck_o hd
        refine mr_row (pc := 21) (k := 48) hx hb hK hW rfl h13 dX4_numbers_21 ?_
        refine lv_iload (pc := 22) hx hb dX4_numbers_22 (lv_at hl 4 rfl) ?_
        refine lv_iload (pc := 24) hx hb dX4_numbers_24 (lv_at hl 4 rfl) ?_
        refine lv_if_ne (pc := 26) (tgt := 33) hx hb dX4_numbers_26 (by decide) (fun c14 => ?_) (fun c14 => ?_)
        · have hd := wt_if hd c14
          refine lv_iconst (pc := 33) (v := 0) hx hb dX4_numbers_33 (by decide) ?_
          obtain ⟨h15, hd⟩ := wt_ck_o hd
          obtain ⟨σ16, eσ16, hd⟩ := wt_lt_o hd
          refine mr_gst (pc := 34) (k := 48) (i := (a0.toNatClampNeg)) hx hb hK hW hJ hS (vp_lt h13) rfl h15 eσ16 dX4_numbers_34 (fun H locs hW hS => ?_)
          obtain ⟨n17, en17, hd⟩ := wt_lt_o hd
          refine lv_iinc (pc := 35) (k := 4) (v := n17) (lv' := [(4, .int n17), (0, .ref X.1.1), (1, .int a0), (2, .int a1), (3, .int a2)]) hx hb dX4_numbers_35 hl rfl en17.symm (by decide) rfl (fun ls hl => ?_)
          refine lv_goto (pc := 38) (tgt := 8) hx hb dX4_numbers_38 (by decide) ?_
          exact ih8 _ (wt_again hd hk7) _ _ _ hW hS (lv_sub hl [1, 2, 3, 4, 0] rfl)
        · have hd := wt_it hd c14
          refine lv_iconst (pc := 29) (v := 1) hx hb dX4_numbers_29 (by decide) ?_
          refine lv_goto (pc := 30) (tgt := 34) hx hb dX4_numbers_30 (by decide) ?_
          obtain ⟨h18, hd⟩ := wt_ck_o hd
          obtain ⟨σ19, eσ19, hd⟩ := wt_lt_o hd
          refine mr_gst (pc := 34) (k := 48) (i := (a0.toNatClampNeg)) hx hb hK hW hJ hS (vp_lt h13) rfl h18 eσ19 dX4_numbers_34 (fun H locs hW hS => ?_)
          obtain ⟨n20, en20, hd⟩ := wt_lt_o hd
          refine lv_iinc (pc := 35) (k := 4) (v := n20) (lv' := [(4, .int n20), (0, .ref X.1.1), (1, .int a0), (2, .int a1), (3, .int a2)]) hx hb dX4_numbers_35 hl rfl en20.symm (by decide) rfl (fun ls hl => ?_)
          refine lv_goto (pc := 38) (tgt := 8) hx hb dX4_numbers_38 (by decide) ?_
          exact ih8 _ (wt_again hd hk7) _ _ _ hW hS (lv_sub hl [1, 2, 3, 4, 0] rfl)
  obtain ⟨k10, hL4⟩ := wt_whC_o hL4
  exact hI11 k10 _ hL4 _ _ _ hW hS (lv_sub hl [1, 2, 3, 4, 0] rfl)
theorem kX4_numbers {p : Program} {l : Launch} {e : Env} {R : Room} {s : State} {m : MethodId} {args : Array Value} {below : List Frame} {meth : Method} {c : Code} {H : Heap} {locs : List Loc} {cells slots : Nat} {Q : State → Prop} {cc : ByteArray} {pc : Nat} {ls : Array Slot} {rest : List Value} {H0 : Heap} {nL : Nat} {X : MPar} {lo hi : Nat} {σ : MSt} {a0 : Int32} {a1 : Int32} {a2 : Int32} {out_ : MSt} (hx : p.tables.exec = Jvm.exec) (hb : c.code = cc) (hml : c.maxLocals = nL) (hown : s.vm.findClass RX4 = some m.cls) (hts : ∀ w ∈ lw_all, w.before args s = true) (hK : mK X s) (hJ : mJ X lo hi) (hW : mW X σ H) (hS : va_S (mA lo hi) H0 H locs) (hd : dX4_numbers σ a0 a1 a2 = some out_) (hsz : ls.size = nL) (hrm : (rest.map fun v => v.category).sum ≤ 8) (hR : 5 ≤ R.frames ∧ 122 ≤ R.locals) (hcs : cells ≤ R.cells ∧ slots ≤ R.slots) (hdg : decode cc pc = .ok (.invokevirtual 275, 3)) (kk : ∀ (H1 : Heap) (locs1 : List Loc), mW X out_ H1 → va_S (mA lo hi) H0 H1 locs1 → W p l e R s m args below meth c H1 locs1 cells slots Q (F0 m (pc + 3) ls (rest))) : W p l e R s m args below meth c H locs cells slots Q (F0 m pc ls (.int a2 :: .int a1 :: .int a0 :: .ref X.1.1 :: rest)) := by
  refine va_callv (va_runV (As := [.int a0, .int a1, .int a2]) (rest := rest) ⟨hx, hb, hml, hown, hts⟩ (wX4_numbers l hJ hd) (cwV 3 hts (lw_V q1852 q1854 qs49 q88 q1855) rfl rfl rfl (by decide +kernel) hR) (mr_pre hK hW) rfl rfl hsz rfl (lv_room hrm) hdg hcs) hS (fun _ _ h => h) (fun _ h => h) (fun u t H1 locs1 ht hvm hp hB hz hk hS1 => ?_)
  have hW1 : mW X out_ t.heap := hB.1
  rw [ht] at hW1
  exact kk H1 locs1 hW1 hS1
noncomputable def dX4_scale (σ : MSt) (a0 : Int32) : Option (Int32 × MSt) :=
  wt_lt (m_sF σ 0 (0 : Int32)) fun σ1 => wt_bd (dX4_isStory σ1 a0) fun w2 => wt_bd (if w2 = 0 then (some (1 : Int32)) else (some (0 : Int32))) fun w4 => wt_bd (dX4_bad σ1 w4 (1 : Int32)) fun w9 => if w9.1 = 0 then (wt_bd (dX4_numbers w9.2 (0 : Int32) a0 (-1 : Int32)) fun w12 => some ((w12.1 49), w12)) else (some ((0 : Int32), w9.2))
set_option maxHeartbeats 4000000 in
theorem wX4_scale (l : Launch) {X : MPar} {lo hi : Nat} (hJ : mJ X lo hi) {σ : MSt} {a0 : Int32} {out_ : Int32 × MSt} (hd : dX4_scale σ a0 = some out_) : Met l yX4_scale (ws_ yX4_scale cX4_scale 2 (some .int)) ({ frames := 5, cells := 0, slots := 0, locals := 122 }) (mP X σ [.ref X.1.1, .int a0]) (mQi X out_.1 out_.2 (mA lo hi)) 0 0 (mA lo hi) := by
  refine Met.ofW (cc := cX4_scale) (maxL := 2) (ret := (some .int)) (by decide) rfl ?_
  intro p_ e_ s_ m_ args_ below_ meth_ c_ s₁_ B hml hv
  obtain ⟨rfl, hW, hK⟩ := hv
  have hx := B.exec
  have hb := B.bytes
  have hr := B.returns
  have hts := atoms_spec (ws := (ws_ yX4_scale cX4_scale 2 (some .int))) B.pre
  have hts : ∀ w ∈ lw_all, w.before _ s_ = true := fun w h => hts w (List.mem_cons_of_mem _ h)
  have hown : s_.vm.findClass RX4 = some m_.cls := findClass_of_methodNamed B.named
  have hlocks := B.notSynchronized
  have hS : va_S (mA lo hi) s_.heap s_.heap [] := va_S.rf
  have hl := lv_entry ([.ref X.1.1, .int a0]) (n := 2) (Nat.le_of_ble_eq_true rfl)
  rw [lg_entry_eq]
  generalize (lg_sl ([.ref X.1.1, .int a0]) ++ List.replicate (2 - (lg_sl ([.ref X.1.1, .int a0])).length) Slot.unset).toArray = ls at hl ⊢
  have hl : lv_has ls 2 [(0, .ref X.1.1), (1, .int a0)] := hl
  unfold dX4_scale at hd
  refine lv_aload_n (pc := 0) hx hb dX4_scale_0 rfl (lv_at hl 0 rfl) ?_
  refine lv_iconst (pc := 1) (v := 0) hx hb dX4_scale_1 (by decide) ?_
  obtain ⟨σ1, eσ1, hd⟩ := wt_lt_o hd
  refine mr_put (pc := 2) (k := 0) hx hb hts hown hK hW hJ hS (by decide) rfl eσ1 q1529 dX4_scale_2 (fun H locs hW hS => ?_)
  refine lv_aload_n (pc := 5) hx hb dX4_scale_5 rfl (lv_at hl 0 rfl) ?_
  refine lv_aload_n (pc := 6) hx hb dX4_scale_6 rfl (lv_at hl 0 rfl) ?_
  refine lv_iload_n (pc := 7) hx hb dX4_scale_7 rfl (lv_at hl 1 rfl) ?_
  obtain ⟨w2, hc3, hd⟩ := wt_bd_o hd
  refine kX4_isStory (pc := 8) hx hb hml hown hts hK hJ hW hS hc3 hl.1 (Nat.le_of_ble_eq_true rfl) ⟨Nat.le_of_ble_eq_true rfl, Nat.le_of_ble_eq_true rfl⟩ ⟨Nat.le_refl _, Nat.le_refl _⟩ dX4_scale_8 (fun H locs hW hS => ?_)
  obtain ⟨w4, hj5, hq6⟩ := wt_bd_o hd
  have hX7 : ∀ w4_ : Int32, w4_ = w4 → ∀ (H : Heap) (locs : List Loc) (ls : Array Slot), mW X σ1 H → va_S (mA lo hi) s_.heap H locs → lv_has ls 2 [(0, .ref X.1.1), (1, .int a0)] → W p_ l e_ (headSpec (ws_ yX4_scale cX4_scale 2 (some .int)) ({ frames := 5, cells := 0, slots := 0, locals := 122 })).room s_ m_ ([.ref X.1.1, .int a0] : List Value).toArray below_ meth_ c_ H locs 0 0 (MQ below_ (mQi X out_.1 out_.2 (mA lo hi)) ([.ref X.1.1, .int a0] : List Value).toArray s_ 0 0 (mA lo hi)) (F0 m_ 19 ls [.int w4_, .ref X.1.1]) := by
    intro w4_ hw_
    have hd := hq6
    subst hw_
    clear hj5 hq6
    intro H locs ls hW hS hl
    refine lv_iconst (pc := 19) (v := 1) hx hb dX4_scale_19 (by decide) ?_
    obtain ⟨w9, hc10, hd⟩ := wt_bd_o hd
    refine kX4_bad (pc := 20) hx hb hml hown hts hK hJ hW hS hc10 hl.1 (Nat.le_of_ble_eq_true rfl) ⟨Nat.le_of_ble_eq_true rfl, Nat.le_of_ble_eq_true rfl⟩ ⟨Nat.le_refl _, Nat.le_refl _⟩ dX4_scale_20 (fun H locs hW hS => ?_)
    refine lv_if_eq (pc := 23) (tgt := 28) hx hb dX4_scale_23 (by decide) (fun c11 => ?_) (fun c11 => ?_)
    · have hd := wt_it hd c11
      refine lv_aload_n (pc := 28) hx hb dX4_scale_28 rfl (lv_at hl 0 rfl) ?_
      refine lv_iconst (pc := 29) (v := 0) hx hb dX4_scale_29 (by decide) ?_
      refine lv_iload_n (pc := 30) hx hb dX4_scale_30 rfl (lv_at hl 1 rfl) ?_
      refine lv_iconst (pc := 31) (v := -1) hx hb dX4_scale_31 (by decide) ?_
      obtain ⟨w12, hc13, hd⟩ := wt_bd_o hd
      refine kX4_numbers (pc := 32) hx hb hml hown hts hK hJ hW hS hc13 hl.1 (Nat.le_of_ble_eq_true rfl) ⟨Nat.le_of_ble_eq_true rfl, Nat.le_of_ble_eq_true rfl⟩ ⟨Nat.le_refl _, Nat.le_refl _⟩ dX4_scale_32 (fun H locs hW hS => ?_)
      refine lv_aload_n (pc := 35) hx hb dX4_scale_35 rfl (lv_at hl 0 rfl) ?_
      refine mr_get (pc := 36) (k := 49) (v := .int ((w12.1 49))) hx hb hts hown hK hW (by decide) rfl q1578 dX4_scale_36 ?_
      exact mr_iret hx hb hr rfl hlocks (wt_p1 hd) (wt_p2 hd) hW hK hS dX4_scale_39
    · have hd := wt_if hd c11
      refine lv_iconst (pc := 26) (v := 0) hx hb dX4_scale_26 (by decide) ?_
      exact mr_iret hx hb hr rfl hlocks (wt_p1 hd) (wt_p2 hd) hW hK hS dX4_scale_27
  have hd := hj5
  refine lv_if_ne (pc := 11) (tgt := 18) hx hb dX4_scale_11 (by decide) (fun c8 => ?_) (fun c8 => ?_)
  · have hd := wt_if hd c8
    refine lv_iconst (pc := 18) (v := 0) hx hb dX4_scale_18 (by decide) ?_
    exact hX7 (0 : Int32) (Option.some.inj hd) _ _ _ hW hS hl
  · have hd := wt_it hd c8
    refine lv_iconst (pc := 14) (v := 1) hx hb dX4_scale_14 (by decide) ?_
    refine lv_goto (pc := 15) (tgt := 19) hx hb dX4_scale_15 (by decide) ?_
    exact hX7 (1 : Int32) (Option.some.inj hd) _ _ _ hW hS hl
noncomputable def bX4_digitsNow_1 (σ : MSt) (v1 : Int32) : Option ((Int32) ⊕ (Int32)) :=
  if v1 ≤ 0 then (some (.inr v1)) else (wt_ck (vp_in (0 : Int32) 3) <| wt_ck (vp_in v1 330) <| if (σ.2.2 48 ((0 : Int32).toNatClampNeg) v1.toNatClampNeg) = 0 then (wt_lt (v1 + (-1 : Int32)) fun n15 => some (.inl n15)) else (some (.inr v1)))
noncomputable def bX4_digitsNow_2  (v20 : Int32 × Int32) : Option ((Int32 × Int32) ⊕ (Int32)) :=
  if v20.2 ≤ 0 then (some (.inr v20.1)) else (wt_lt (v20.1 + (1 : Int32)) fun n31 => wt_lt ((v20.2 / (10 : Int32))) fun n32 => some (.inl (n31, n32)))
noncomputable def dX4_digitsNow (σ : MSt)  : Option (Int32) :=
  wt_bd (wt_whC (bX4_digitsNow_1 σ) (329 : Int32)) fun w2 => wt_lt ((((4 : Int32) * w2) + (1 : Int32))) fun n16 => wt_ck (vp_in (0 : Int32) 3) <| wt_ck (vp_in w2 330) <| wt_lt (((σ.2.2 48 ((0 : Int32).toNatClampNeg) w2.toNatClampNeg) / (10 : Int32))) fun n19 => wt_bd (wt_whC (bX4_digitsNow_2) (n16, n19)) fun w21 => some w21
set_option maxHeartbeats 4000000 in
theorem wX4_digitsNow (l : Launch) {X : MPar} {lo hi : Nat} (hJ : mJ X lo hi) {σ : MSt}  {out_ : Int32} (hd : dX4_digitsNow σ = some out_) : Met l yX4_digitsNow (ws_ yX4_digitsNow cX4_digitsNow 4 (some .int)) ({ frames := 0, cells := 0, slots := 0, locals := 0 }) (mP X σ [.ref X.1.1]) (mQi X out_ σ (mA lo hi)) 0 0 (mA lo hi) := by
  refine Met.ofW (cc := cX4_digitsNow) (maxL := 4) (ret := (some .int)) (by decide) rfl ?_
  intro p_ e_ s_ m_ args_ below_ meth_ c_ s₁_ B hml hv
  obtain ⟨rfl, hW, hK⟩ := hv
  have hx := B.exec
  have hb := B.bytes
  have hr := B.returns
  have hts := atoms_spec (ws := (ws_ yX4_digitsNow cX4_digitsNow 4 (some .int))) B.pre
  have hts : ∀ w ∈ lw_all, w.before _ s_ = true := fun w h => hts w (List.mem_cons_of_mem _ h)
  have hown : s_.vm.findClass RX4 = some m_.cls := findClass_of_methodNamed B.named
  have hlocks := B.notSynchronized
  have hS : va_S (mA lo hi) s_.heap s_.heap [] := va_S.rf
  have hl := lv_entry ([.ref X.1.1]) (n := 4) (Nat.le_of_ble_eq_true rfl)
  rw [lg_entry_eq]
  generalize (lg_sl ([.ref X.1.1]) ++ List.replicate (4 - (lg_sl ([.ref X.1.1])).length) Slot.unset).toArray = ls at hl ⊢
  have hl : lv_has ls 4 [(0, .ref X.1.1)] := hl
  unfold dX4_digitsNow at hd
  refine lv_sipush (pc := 0) (v := 329) hx hb dX4_digitsNow_0 (by decide) ?_
  refine lv_istore_n (pc := 3) (lv' := [(1, .int (329 : Int32)), (0, .ref X.1.1)]) hx hb dX4_digitsNow_3 rfl hl (by decide) rfl (fun ls hl => ?_)
  obtain ⟨w2, hL3, hq4⟩ := wt_bd_o hd
  have hX5 : ∀ w2_ : Int32, w2_ = w2 → ∀ (H : Heap) (locs : List Loc) (ls : Array Slot), mW X σ H → va_S (mA lo hi) s_.heap H locs → lv_has ls 4 [(0, .ref X.1.1), (1, .int w2_)] → W p_ l e_ (headSpec (ws_ yX4_digitsNow cX4_digitsNow 4 (some .int)) ({ frames := 0, cells := 0, slots := 0, locals := 0 })).room s_ m_ ([.ref X.1.1] : List Value).toArray below_ meth_ c_ H locs 0 0 (MQ below_ (mQi X out_ σ (mA lo hi)) ([.ref X.1.1] : List Value).toArray s_ 0 0 (mA lo hi)) (F0 m_ 25 ls []) := by
    intro w2_ hw_
    have hd := hq4
    subst hw_
    clear hL3 hq4
    intro H locs ls hW hS hl
    refine lv_iconst (pc := 25) (v := 4) hx hb dX4_digitsNow_25 (by decide) ?_
    refine lv_iload_n (pc := 26) hx hb dX4_digitsNow_26 rfl (lv_at hl 1 rfl) ?_
    refine lv_imul (pc := 27) hx hb dX4_digitsNow_27 ?_
    refine lv_iconst (pc := 28) (v := 1) hx hb dX4_digitsNow_28 (by decide) ?_
    refine lv_iadd (pc := 29) hx hb dX4_digitsNow_29 ?_
    obtain ⟨n16, en16, hd⟩ := wt_lt_o hd
    refine lv_tope en16 ?_
    refine lv_istore_n (pc := 30) (lv' := [(2, .int n16), (0, .ref X.1.1), (1, .int w2_)]) hx hb dX4_digitsNow_30 rfl hl (by decide) rfl (fun ls hl => ?_)
    refine lv_aload_n (pc := 31) hx hb dX4_digitsNow_31 rfl (lv_at hl 1 rfl) ?_
    refine mr_get (pc := 32) (k := 48) (v := .ref (X.1.2.1 48)) hx hb hts hown hK hW (by decide) rfl q1577 dX4_digitsNow_32 ?_
    refine lv_iconst (pc := 35) (v := 0) hx hb dX4_digitsNow_35 (by decide) ?_
    obtain ⟨h17, hd⟩ := wt_ck_o hd
    refine mr_row (pc := 36) (k := 48) hx hb hK hW rfl h17 dX4_digitsNow_36 ?_
    refine lv_iload_n (pc := 37) hx hb dX4_digitsNow_37 rfl (lv_at hl 2 rfl) ?_
    obtain ⟨h18, hd⟩ := wt_ck_o hd
    refine mr_gld (pc := 38) (k := 48) (i := ((0 : Int32).toNatClampNeg)) hx hb hK hW (vp_lt h17) rfl h18 dX4_digitsNow_38 ?_
    refine lv_bipush (pc := 39) (v := 10) hx hb dX4_digitsNow_39 (by decide) ?_
    refine lv_idiv (pc := 41) hx hb dX4_digitsNow_41 (by decide) ?_
    obtain ⟨n19, en19, hd⟩ := wt_lt_o hd
    refine lv_tope en19 ?_
    refine lv_istore_n (pc := 42) (lv' := [(3, .int n19), (2, .int n16), (0, .ref X.1.1), (1, .int w2_)]) hx hb dX4_digitsNow_42 rfl hl (by decide) rfl (fun ls hl => ?_)
    obtain ⟨w21, hL22, hq23⟩ := wt_bd_o hd
    have hX24 : ∀ w21_ : Int32, w21_ = w21 → ∀ (H : Heap) (locs : List Loc) (ls : Array Slot), mW X σ H → va_S (mA lo hi) s_.heap H locs → lv_has ls 4 [(2, .int w21_)] → W p_ l e_ (headSpec (ws_ yX4_digitsNow cX4_digitsNow 4 (some .int)) ({ frames := 0, cells := 0, slots := 0, locals := 0 })).room s_ m_ ([.ref X.1.1] : List Value).toArray below_ meth_ c_ H locs 0 0 (MQ below_ (mQi X out_ σ (mA lo hi)) ([.ref X.1.1] : List Value).toArray s_ 0 0 (mA lo hi)) (F0 m_ 58 ls []) := by
      intro w21_ hw_
      have hd := hq23
      subst hw_
      clear hL22 hq23
      intro H locs ls hW hS hl
      refine lv_iload_n (pc := 58) hx hb dX4_digitsNow_58 rfl (lv_at hl 0 rfl) ?_
      exact mr_iret hx hb hr rfl hlocks (Option.some.inj hd) rfl hW hK hS dX4_digitsNow_59
    have hI29 : ∀ (k28 : Nat) (v20 : Int32 × Int32), wt_wh (bX4_digitsNow_2) k28 v20 = some w21 → ∀ (H : Heap) (locs : List Loc) (ls : Array Slot), mW X σ H → va_S (mA lo hi) s_.heap H locs → lv_has ls 4 [(2, .int v20.1), (3, .int v20.2)] → W p_ l e_ (headSpec (ws_ yX4_digitsNow cX4_digitsNow 4 (some .int)) ({ frames := 0, cells := 0, slots := 0, locals := 0 })).room s_ m_ ([.ref X.1.1] : List Value).toArray below_ meth_ c_ H locs 0 0 (MQ below_ (mQi X out_ σ (mA lo hi)) ([.ref X.1.1] : List Value).toArray s_ 0 0 (mA lo hi)) (F0 m_ 43 ls []) := by
      intro k28
      induction k28 with
      | zero => intro v20 hd; exact absurd hd wt_wh_z
      | succ k28 ih26 =>
        intro v20 hd
        intro H locs ls hW hS hl
        obtain ⟨r27, hd, hk25⟩ := wt_wh_o hd
        unfold bX4_digitsNow_2 at hd
        refine lv_iload_n (pc := 43) hx hb dX4_digitsNow_43 rfl (lv_at hl 1 rfl) ?_
        refine lv_if_le (pc := 44) (tgt := 58) hx hb dX4_digitsNow_44 (by decide) (fun c30 => ?_) (fun c30 => ?_)
        · have hd := wt_it hd c30
          exact hX24 v20.1 (wt_exit hd hk25) _ _ _ hW hS (lv_sub hl [0] rfl)
        · have hd := wt_if hd c30
          obtain ⟨n31, en31, hd⟩ := wt_lt_o hd
          refine lv_iinc (pc := 47) (k := 0) (v := n31) (lv' := [(2, .int n31), (3, .int v20.2)]) hx hb dX4_digitsNow_47 hl rfl en31.symm (by decide) rfl (fun ls hl => ?_)
          refine lv_iload_n (pc := 50) hx hb dX4_digitsNow_50 rfl (lv_at hl 1 rfl) ?_
          refine lv_bipush (pc := 51) (v := 10) hx hb dX4_digitsNow_51 (by decide) ?_
          refine lv_idiv (pc := 53) hx hb dX4_digitsNow_53 (by decide) ?_
          obtain ⟨n32, en32, hd⟩ := wt_lt_o hd
          refine lv_tope en32 ?_
          refine lv_istore_n (pc := 54) (lv' := [(3, .int n32), (2, .int n31)]) hx hb dX4_digitsNow_54 rfl hl (by decide) rfl (fun ls hl => ?_)
          refine lv_goto (pc := 55) (tgt := 43) hx hb dX4_digitsNow_55 (by decide) ?_
          exact ih26 _ (wt_again hd hk25) _ _ _ hW hS (lv_sub hl [1, 0] rfl)
    obtain ⟨k28, hL22⟩ := wt_whC_o hL22
    exact hI29 k28 _ hL22 _ _ _ hW hS (lv_sub hl [1, 0] rfl)
  have hI10 : ∀ (k9 : Nat) (v1 : Int32), wt_wh (bX4_digitsNow_1 σ) k9 v1 = some w2 → ∀ (H : Heap) (locs : List Loc) (ls : Array Slot), mW X σ H → va_S (mA lo hi) s_.heap H locs → lv_has ls 4 [(0, .ref X.1.1), (1, .int v1)] → W p_ l e_ (headSpec (ws_ yX4_digitsNow cX4_digitsNow 4 (some .int)) ({ frames := 0, cells := 0, slots := 0, locals := 0 })).room s_ m_ ([.ref X.1.1] : List Value).toArray below_ meth_ c_ H locs 0 0 (MQ below_ (mQi X out_ σ (mA lo hi)) ([.ref X.1.1] : List Value).toArray s_ 0 0 (mA lo hi)) (F0 m_ 4 ls []) := by
    intro k9
    induction k9 with
    | zero => intro v1 hd; exact absurd hd wt_wh_z
    | succ k9 ih7 =>
      intro v1 hd
      intro H locs ls hW hS hl
      obtain ⟨r8, hd, hk6⟩ := wt_wh_o hd
      unfold bX4_digitsNow_1 at hd
      refine lv_iload_n (pc := 4) hx hb dX4_digitsNow_4 rfl (lv_at hl 1 rfl) ?_
      refine lv_if_le (pc := 5) (tgt := 25) hx hb dX4_digitsNow_5 (by decide) (fun c11 => ?_) (fun c11 => ?_)
      · have hd := wt_it hd c11
        exact hX5 v1 (wt_exit hd hk6) _ _ _ hW hS hl
      · have hd := wt_if hd c11
        refine lv_aload_n (pc := 8) hx hb dX4_digitsNow_8 rfl (lv_at hl 0 rfl) ?_
        refine mr_get (pc := 9) (k := 48) (v := .ref (X.1.2.1 48)) hx hb hts hown hK hW (by decide) rfl q1577 dX4_digitsNow_9 ?_
        refine lv_iconst (pc := 12) (v := 0) hx hb dX4_digitsNow_12 (by decide) ?_
        obtain ⟨h12, hd⟩ := wt_ck_o hd
        refine mr_row (pc := 13) (k := 48) hx hb hK hW rfl h12 dX4_digitsNow_13 ?_
        refine lv_iload_n (pc := 14) hx hb dX4_digitsNow_14 rfl (lv_at hl 1 rfl) ?_
        obtain ⟨h13, hd⟩ := wt_ck_o hd
        refine mr_gld (pc := 15) (k := 48) (i := ((0 : Int32).toNatClampNeg)) hx hb hK hW (vp_lt h12) rfl h13 dX4_digitsNow_15 ?_
        refine lv_if_ne (pc := 16) (tgt := 25) hx hb dX4_digitsNow_16 (by decide) (fun c14 => ?_) (fun c14 => ?_)
        · have hd := wt_if hd c14
          exact hX5 v1 (wt_exit hd hk6) _ _ _ hW hS hl
        · have hd := wt_it hd c14
          obtain ⟨n15, en15, hd⟩ := wt_lt_o hd
          refine lv_iinc (pc := 19) (k := 1) (v := n15) (lv' := [(1, .int n15), (0, .ref X.1.1)]) hx hb dX4_digitsNow_19 hl rfl en15.symm (by decide) rfl (fun ls hl => ?_)
          refine lv_goto (pc := 22) (tgt := 4) hx hb dX4_digitsNow_22 (by decide) ?_
          exact ih7 _ (wt_again hd hk6) _ _ _ hW hS (lv_sub hl [1, 0] rfl)
  obtain ⟨k9, hL3⟩ := wt_whC_o hL3
  exact hI10 k9 _ hL3 _ _ _ hW hS (lv_sub hl [1, 0] rfl)
theorem kX4_digitsNow {p : Program} {l : Launch} {e : Env} {R : Room} {s : State} {m : MethodId} {args : Array Value} {below : List Frame} {meth : Method} {c : Code} {H : Heap} {locs : List Loc} {cells slots : Nat} {Q : State → Prop} {cc : ByteArray} {pc : Nat} {ls : Array Slot} {rest : List Value} {H0 : Heap} {nL : Nat} {X : MPar} {lo hi : Nat} {σ : MSt}  {out_ : Int32} (hx : p.tables.exec = Jvm.exec) (hb : c.code = cc) (hml : c.maxLocals = nL) (hown : s.vm.findClass RX4 = some m.cls) (hts : ∀ w ∈ lw_all, w.before args s = true) (hK : mK X s) (hJ : mJ X lo hi) (hW : mW X σ H) (hS : va_S (mA lo hi) H0 H locs) (hd : dX4_digitsNow σ = some out_) (hsz : ls.size = nL) (hrm : (rest.map fun v => v.category).sum ≤ 8) (hR : 1 ≤ R.frames ∧ 23 ≤ R.locals) (hcs : cells ≤ R.cells ∧ slots ≤ R.slots) (hdg : decode cc pc = .ok (.invokevirtual 278, 3)) (kk : ∀ (H1 : Heap) (locs1 : List Loc), mW X σ H1 → va_S (mA lo hi) H0 H1 locs1 → W p l e R s m args below meth c H1 locs1 cells slots Q (F0 m (pc + 3) ls (.int out_ :: rest))) : W p l e R s m args below meth c H locs cells slots Q (F0 m pc ls (.ref X.1.1 :: rest)) := by
  refine va_calli (va_runV (As := []) (rest := rest) ⟨hx, hb, hml, hown, hts⟩ (wX4_digitsNow l hJ hd) (cwV 0 hts (lw_V q1873 q1875 qs53 q88 q1876) rfl rfl rfl (by decide +kernel) hR) (mr_pre hK hW) rfl rfl hsz rfl (lv_room hrm) hdg hcs) hS (fun _ _ h => h) (fun _ h => h) (fun r u t H1 locs1 ht hvm hp hB hz hk hS1 => ?_)
  have hp : r = out_ := hp
  subst hp
  have hW1 : mW X σ t.heap := hB.1
  rw [ht] at hW1
  exact kk H1 locs1 hW1 hS1
