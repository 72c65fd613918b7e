/-! the model's methods, walked (by gen/walk.py): digits digit levels two compare weighed isNothing worthNow worthOf worth part events plain counts needed byWay bench leftBehind after seat onSeats share together shop rare -/
set_option maxRecDepth 100000
noncomputable def dX4_digits (σ : MSt) (a0 : Int32) : Option (Int32 × MSt) :=
  wt_lt (m_sF σ 0 (0 : Int32)) fun σ1 => wt_bd (dX4_isStory σ1 a0) fun w2 => wt_bd (if w2 = 0 then (some (1 : Int32)) else (some (0 : Int32))) fun w4 => wt_bd (dX4_bad σ1 w4 (1 : Int32)) fun w9 => if w9.1 = 0 then (wt_bd (dX4_numbers w9.2 (0 : Int32) a0 (-1 : Int32)) fun w12 => wt_bd (dX4_digitsNow w12) fun w14 => some (w14, w12)) else (some ((0 : Int32), w9.2))
set_option maxHeartbeats 4000000 in
theorem wX4_digits (l : Launch) {X : MPar} {lo hi : Nat} (hJ : mJ X lo hi) {σ : MSt} {a0 : Int32} {out_ : Int32 × MSt} (hd : dX4_digits σ a0 = some out_) : Met l yX4_digits (ws_ yX4_digits cX4_digits 2 (some .int)) ({ frames := 5, cells := 0, slots := 0, locals := 122 }) (mP X σ [.ref X.1.1, .int a0]) (mQi X out_.1 out_.2 (mA lo hi)) 0 0 (mA lo hi) := by
  refine Met.ofW (cc := cX4_digits) (maxL := 2) (ret := (some .int)) (by decide) rfl ?_
  intro p_ e_ s_ m_ args_ below_ meth_ c_ s₁_ B hml hv
  obtain ⟨rfl, hW, hK⟩ := hv
  have hx := B.exec
  have hb := B.bytes
  have hr := B.returns
  have hts := atoms_spec (ws := (ws_ yX4_digits cX4_digits 2 (some .int))) B.pre
  have hts : ∀ w ∈ lw_all, w.before _ s_ = true := fun w h => hts w (List.mem_cons_of_mem _ h)
  have hown : s_.vm.findClass RX4 = some m_.cls := findClass_of_methodNamed B.named
  have hlocks := B.notSynchronized
  have hS : va_S (mA lo hi) s_.heap s_.heap [] := va_S.rf
  have hl := lv_entry ([.ref X.1.1, .int a0]) (n := 2) (Nat.le_of_ble_eq_true rfl)
  rw [lg_entry_eq]
  generalize (lg_sl ([.ref X.1.1, .int a0]) ++ List.replicate (2 - (lg_sl ([.ref X.1.1, .int a0])).length) Slot.unset).toArray = ls at hl ⊢
  have hl : lv_has ls 2 [(0, .ref X.1.1), (1, .int a0)] := hl
  unfold dX4_digits at hd
  refine lv_aload_n (pc := 0) hx hb dX4_digits_0 rfl (lv_at hl 0 rfl) ?_
  refine lv_iconst (pc := 1) (v := 0) hx hb dX4_digits_1 (by decide) ?_
  obtain ⟨σ1, eσ1, hd⟩ := wt_lt_o hd
  refine mr_put (pc := 2) (k := 0) hx hb hts hown hK hW hJ hS (by decide) rfl eσ1 q1529 dX4_digits_2 (fun H locs hW hS => ?_)
  refine lv_aload_n (pc := 5) hx hb dX4_digits_5 rfl (lv_at hl 0 rfl) ?_
  refine lv_aload_n (pc := 6) hx hb dX4_digits_6 rfl (lv_at hl 0 rfl) ?_
  refine lv_iload_n (pc := 7) hx hb dX4_digits_7 rfl (lv_at hl 1 rfl) ?_
  obtain ⟨w2, hc3, hd⟩ := wt_bd_o hd
  refine kX4_isStory (pc := 8) hx hb hml hown hts hK hJ hW hS hc3 hl.1 (Nat.le_of_ble_eq_true rfl) ⟨Nat.le_of_ble_eq_true rfl, Nat.le_of_ble_eq_true rfl⟩ ⟨Nat.le_refl _, Nat.le_refl _⟩ dX4_digits_8 (fun H locs hW hS => ?_)
  obtain ⟨w4, hj5, hq6⟩ := wt_bd_o hd
  have hX7 : ∀ w4_ : Int32, w4_ = w4 → ∀ (H : Heap) (locs : List Loc) (ls : Array Slot), mW X σ1 H → va_S (mA lo hi) s_.heap H locs → lv_has ls 2 [(0, .ref X.1.1), (1, .int a0)] → W p_ l e_ (headSpec (ws_ yX4_digits cX4_digits 2 (some .int)) ({ frames := 5, cells := 0, slots := 0, locals := 122 })).room s_ m_ ([.ref X.1.1, .int a0] : List Value).toArray below_ meth_ c_ H locs 0 0 (MQ below_ (mQi X out_.1 out_.2 (mA lo hi)) ([.ref X.1.1, .int a0] : List Value).toArray s_ 0 0 (mA lo hi)) (F0 m_ 19 ls [.int w4_, .ref X.1.1]) := by
    intro w4_ hw_
    have hd := hq6
    subst hw_
    clear hj5 hq6
    intro H locs ls hW hS hl
    refine lv_iconst (pc := 19) (v := 1) hx hb dX4_digits_19 (by decide) ?_
    obtain ⟨w9, hc10, hd⟩ := wt_bd_o hd
    refine kX4_bad (pc := 20) hx hb hml hown hts hK hJ hW hS hc10 hl.1 (Nat.le_of_ble_eq_true rfl) ⟨Nat.le_of_ble_eq_true rfl, Nat.le_of_ble_eq_true rfl⟩ ⟨Nat.le_refl _, Nat.le_refl _⟩ dX4_digits_20 (fun H locs hW hS => ?_)
    refine lv_if_eq (pc := 23) (tgt := 28) hx hb dX4_digits_23 (by decide) (fun c11 => ?_) (fun c11 => ?_)
    · have hd := wt_it hd c11
      refine lv_aload_n (pc := 28) hx hb dX4_digits_28 rfl (lv_at hl 0 rfl) ?_
      refine lv_iconst (pc := 29) (v := 0) hx hb dX4_digits_29 (by decide) ?_
      refine lv_iload_n (pc := 30) hx hb dX4_digits_30 rfl (lv_at hl 1 rfl) ?_
      refine lv_iconst (pc := 31) (v := -1) hx hb dX4_digits_31 (by decide) ?_
      obtain ⟨w12, hc13, hd⟩ := wt_bd_o hd
      refine kX4_numbers (pc := 32) hx hb hml hown hts hK hJ hW hS hc13 hl.1 (Nat.le_of_ble_eq_true rfl) ⟨Nat.le_of_ble_eq_true rfl, Nat.le_of_ble_eq_true rfl⟩ ⟨Nat.le_refl _, Nat.le_refl _⟩ dX4_digits_32 (fun H locs hW hS => ?_)
      refine lv_aload_n (pc := 35) hx hb dX4_digits_35 rfl (lv_at hl 0 rfl) ?_
      obtain ⟨w14, hc15, hd⟩ := wt_bd_o hd
      refine kX4_digitsNow (pc := 36) hx hb hml hown hts hK hJ hW hS hc15 hl.1 (Nat.le_of_ble_eq_true rfl) ⟨Nat.le_of_ble_eq_true rfl, Nat.le_of_ble_eq_true rfl⟩ ⟨Nat.le_refl _, Nat.le_refl _⟩ dX4_digits_36 (fun H locs hW hS => ?_)
      exact mr_iret hx hb hr rfl hlocks (wt_p1 hd) (wt_p2 hd) hW hK hS dX4_digits_39
    · have hd := wt_if hd c11
      refine lv_iconst (pc := 26) (v := 0) hx hb dX4_digits_26 (by decide) ?_
      exact mr_iret hx hb hr rfl hlocks (wt_p1 hd) (wt_p2 hd) hW hK hS dX4_digits_27
  have hd := hj5
  refine lv_if_ne (pc := 11) (tgt := 18) hx hb dX4_digits_11 (by decide) (fun c8 => ?_) (fun c8 => ?_)
  · have hd := wt_if hd c8
    refine lv_iconst (pc := 18) (v := 0) hx hb dX4_digits_18 (by decide) ?_
    exact hX7 (0 : Int32) (Option.some.inj hd) _ _ _ hW hS hl
  · have hd := wt_it hd c8
    refine lv_iconst (pc := 14) (v := 1) hx hb dX4_digits_14 (by decide) ?_
    refine lv_goto (pc := 15) (tgt := 19) hx hb dX4_digits_15 (by decide) ?_
    exact hX7 (1 : Int32) (Option.some.inj hd) _ _ _ hW hS hl
noncomputable def bX4_digit_1 (a1 : Int32) (v22 : Int32 × Int32) : Option ((Int32 × Int32) ⊕ (Int32)) :=
  if (a1 - a1 / (4 : Int32) * (4 : Int32)) ≤ v22.2 then (some (.inr v22.1)) else (wt_lt ((v22.1 / (10 : Int32))) fun n33 => wt_lt (v22.2 + (1 : Int32)) fun n34 => some (.inl (n33, n34)))
noncomputable def dX4_digit (σ : MSt) (a0 : Int32) (a1 : Int32) : Option (Int32 × MSt) :=
  wt_lt (m_sF σ 0 (0 : Int32)) fun σ1 => wt_bd (dX4_isStory σ1 a0) fun w2 => wt_bd (if w2 = 0 then (some (1 : Int32)) else (some (0 : Int32))) fun w4 => wt_bd (dX4_bad σ1 w4 (1 : Int32)) fun w9 => if w9.1 = 0 then (wt_bd (dX4_numbers w9.2 (0 : Int32) a0 (-1 : Int32)) fun w12 => wt_bd (dX4_digitsNow w12) fun w14 => wt_bd (dX4_in a1 (0 : Int32) (w14 - (1 : Int32))) fun w16 => if w16 = 0 then (some ((-1 : Int32), w12)) else (wt_ck (vp_in (0 : Int32) 3) <| wt_ck (vp_in (a1 / (4 : Int32)) 330) <| wt_lt ((w12.2.2 48 ((0 : Int32).toNatClampNeg) (a1 / (4 : Int32)).toNatClampNeg)) fun n21 => wt_bd (wt_whC (bX4_digit_1 a1) (n21, (0 : Int32))) fun w23 => some ((w23 - w23 / (10 : Int32) * (10 : Int32)), w12))) else (some ((0 : Int32), w9.2))
set_option maxHeartbeats 4000000 in
theorem wX4_digit (l : Launch) {X : MPar} {lo hi : Nat} (hJ : mJ X lo hi) {σ : MSt} {a0 : Int32} {a1 : Int32} {out_ : Int32 × MSt} (hd : dX4_digit σ a0 a1 = some out_) : Met l yX4_digit (ws_ yX4_digit cX4_digit 5 (some .int)) ({ frames := 5, cells := 0, slots := 0, locals := 122 }) (mP X σ [.ref X.1.1, .int a0, .int a1]) (mQi X out_.1 out_.2 (mA lo hi)) 0 0 (mA lo hi) := by
  refine Met.ofW (cc := cX4_digit) (maxL := 5) (ret := (some .int)) (by decide) rfl ?_
  intro p_ e_ s_ m_ args_ below_ meth_ c_ s₁_ B hml hv
  obtain ⟨rfl, hW, hK⟩ := hv
  have hx := B.exec
  have hb := B.bytes
  have hr := B.returns
  have hts := atoms_spec (ws := (ws_ yX4_digit cX4_digit 5 (some .int))) B.pre
  have hts : ∀ w ∈ lw_all, w.before _ s_ = true := fun w h => hts w (List.mem_cons_of_mem _ h)
  have hown : s_.vm.findClass RX4 = some m_.cls := findClass_of_methodNamed B.named
  have hlocks := B.notSynchronized
  have hS : va_S (mA lo hi) s_.heap s_.heap [] := va_S.rf
  have hl := lv_entry ([.ref X.1.1, .int a0, .int a1]) (n := 5) (Nat.le_of_ble_eq_true rfl)
  rw [lg_entry_eq]
  generalize (lg_sl ([.ref X.1.1, .int a0, .int a1]) ++ List.replicate (5 - (lg_sl ([.ref X.1.1, .int a0, .int a1])).length) Slot.unset).toArray = ls at hl ⊢
  have hl : lv_has ls 5 [(0, .ref X.1.1), (1, .int a0), (2, .int a1)] := hl
  unfold dX4_digit at hd
  refine lv_aload_n (pc := 0) hx hb dX4_digit_0 rfl (lv_at hl 0 rfl) ?_
  refine lv_iconst (pc := 1) (v := 0) hx hb dX4_digit_1 (by decide) ?_
  obtain ⟨σ1, eσ1, hd⟩ := wt_lt_o hd
  refine mr_put (pc := 2) (k := 0) hx hb hts hown hK hW hJ hS (by decide) rfl eσ1 q1529 dX4_digit_2 (fun H locs hW hS => ?_)
  refine lv_aload_n (pc := 5) hx hb dX4_digit_5 rfl (lv_at hl 0 rfl) ?_
  refine lv_aload_n (pc := 6) hx hb dX4_digit_6 rfl (lv_at hl 0 rfl) ?_
  refine lv_iload_n (pc := 7) hx hb dX4_digit_7 rfl (lv_at hl 1 rfl) ?_
  obtain ⟨w2, hc3, hd⟩ := wt_bd_o hd
  refine kX4_isStory (pc := 8) hx hb hml hown hts hK hJ hW hS hc3 hl.1 (Nat.le_of_ble_eq_true rfl) ⟨Nat.le_of_ble_eq_true rfl, Nat.le_of_ble_eq_true rfl⟩ ⟨Nat.le_refl _, Nat.le_refl _⟩ dX4_digit_8 (fun H locs hW hS => ?_)
  obtain ⟨w4, hj5, hq6⟩ := wt_bd_o hd
  have hX7 : ∀ w4_ : Int32, w4_ = w4 → ∀ (H : Heap) (locs : List Loc) (ls : Array Slot), mW X σ1 H → va_S (mA lo hi) s_.heap H locs → lv_has ls 5 [(0, .ref X.1.1), (1, .int a0), (2, .int a1)] → W p_ l e_ (headSpec (ws_ yX4_digit cX4_digit 5 (some .int)) ({ frames := 5, cells := 0, slots := 0, locals := 122 })).room s_ m_ ([.ref X.1.1, .int a0, .int a1] : List Value).toArray below_ meth_ c_ H locs 0 0 (MQ below_ (mQi X out_.1 out_.2 (mA lo hi)) ([.ref X.1.1, .int a0, .int a1] : List Value).toArray s_ 0 0 (mA lo hi)) (F0 m_ 19 ls [.int w4_, .ref X.1.1]) := by
    intro w4_ hw_
    have hd := hq6
    subst hw_
    clear hj5 hq6
    intro H locs ls hW hS hl
    refine lv_iconst (pc := 19) (v := 1) hx hb dX4_digit_19 (by decide) ?_
    obtain ⟨w9, hc10, hd⟩ := wt_bd_o hd
    refine kX4_bad (pc := 20) hx hb hml hown hts hK hJ hW hS hc10 hl.1 (Nat.le_of_ble_eq_true rfl) ⟨Nat.le_of_ble_eq_true rfl, Nat.le_of_ble_eq_true rfl⟩ ⟨Nat.le_refl _, Nat.le_refl _⟩ dX4_digit_20 (fun H locs hW hS => ?_)
    refine lv_if_eq (pc := 23) (tgt := 28) hx hb dX4_digit_23 (by decide) (fun c11 => ?_) (fun c11 => ?_)
    · have hd := wt_it hd c11
      refine lv_aload_n (pc := 28) hx hb dX4_digit_28 rfl (lv_at hl 0 rfl) ?_
      refine lv_iconst (pc := 29) (v := 0) hx hb dX4_digit_29 (by decide) ?_
      refine lv_iload_n (pc := 30) hx hb dX4_digit_30 rfl (lv_at hl 1 rfl) ?_
      refine lv_iconst (pc := 31) (v := -1) hx hb dX4_digit_31 (by decide) ?_
      obtain ⟨w12, hc13, hd⟩ := wt_bd_o hd
      refine kX4_numbers (pc := 32) hx hb hml hown hts hK hJ hW hS hc13 hl.1 (Nat.le_of_ble_eq_true rfl) ⟨Nat.le_of_ble_eq_true rfl, Nat.le_of_ble_eq_true rfl⟩ ⟨Nat.le_refl _, Nat.le_refl _⟩ dX4_digit_32 (fun H locs hW hS => ?_)
      refine lv_iload_n (pc := 35) hx hb dX4_digit_35 rfl (lv_at hl 2 rfl) ?_
      refine lv_iconst (pc := 36) (v := 0) hx hb dX4_digit_36 (by decide) ?_
      refine lv_aload_n (pc := 37) hx hb dX4_digit_37 rfl (lv_at hl 0 rfl) ?_
      obtain ⟨w14, hc15, hd⟩ := wt_bd_o hd
      refine kX4_digitsNow (pc := 38) hx hb hml hown hts hK hJ hW hS hc15 hl.1 (Nat.le_of_ble_eq_true rfl) ⟨Nat.le_of_ble_eq_true rfl, Nat.le_of_ble_eq_true rfl⟩ ⟨Nat.le_refl _, Nat.le_refl _⟩ dX4_digit_38 (fun H locs hW hS => ?_)
      refine lv_iconst (pc := 41) (v := 1) hx hb dX4_digit_41 (by decide) ?_
      refine lv_isub (pc := 42) hx hb dX4_digit_42 ?_
      obtain ⟨w16, hc17, hd⟩ := wt_bd_o hd
      refine kX4_in (pc := 43) hx hb hml hown hts hK hW hS hc17 hl.1 (Nat.le_of_ble_eq_true rfl) ⟨Nat.le_of_ble_eq_true rfl, Nat.le_of_ble_eq_true rfl⟩ ⟨Nat.le_refl _, Nat.le_refl _⟩ dX4_digit_43 (fun H locs hW hS => ?_)
      refine lv_if_ne (pc := 46) (tgt := 51) hx hb dX4_digit_46 (by decide) (fun c18 => ?_) (fun c18 => ?_)
      · have hd := wt_if hd c18
        refine lv_aload_n (pc := 51) hx hb dX4_digit_51 rfl (lv_at hl 0 rfl) ?_
        refine mr_get (pc := 52) (k := 48) (v := .ref (X.1.2.1 48)) hx hb hts hown hK hW (by decide) rfl q1577 dX4_digit_52 ?_
        refine lv_iconst (pc := 55) (v := 0) hx hb dX4_digit_55 (by decide) ?_
        obtain ⟨h19, hd⟩ := wt_ck_o hd
        refine mr_row (pc := 56) (k := 48) hx hb hK hW rfl h19 dX4_digit_56 ?_
        refine lv_iload_n (pc := 57) hx hb dX4_digit_57 rfl (lv_at hl 2 rfl) ?_
        refine lv_iconst (pc := 58) (v := 4) hx hb dX4_digit_58 (by decide) ?_
        refine lv_idiv (pc := 59) hx hb dX4_digit_59 (by decide) ?_
        obtain ⟨h20, hd⟩ := wt_ck_o hd
        refine mr_gld (pc := 60) (k := 48) (i := ((0 : Int32).toNatClampNeg)) hx hb hK hW (vp_lt h19) rfl h20 dX4_digit_60 ?_
        obtain ⟨n21, en21, hd⟩ := wt_lt_o hd
        refine lv_tope en21 ?_
        refine lv_istore_n (pc := 61) (lv' := [(3, .int n21), (0, .ref X.1.1), (1, .int a0), (2, .int a1)]) hx hb dX4_digit_61 rfl hl (by decide) rfl (fun ls hl => ?_)
        refine lv_iconst (pc := 62) (v := 0) hx hb dX4_digit_62 (by decide) ?_
        refine lv_istore (pc := 63) (lv' := [(4, .int (0 : Int32)), (3, .int n21), (0, .ref X.1.1), (1, .int a0), (2, .int a1)]) hx hb dX4_digit_63 hl (by decide) rfl (fun ls hl => ?_)
        obtain ⟨w23, hL24, hq25⟩ := wt_bd_o hd
        have hX26 : ∀ w23_ : Int32, w23_ = w23 → ∀ (H : Heap) (locs : List Loc) (ls : Array Slot), mW X w12 H → va_S (mA lo hi) s_.heap H locs → lv_has ls 5 [(3, .int w23_)] → W p_ l e_ (headSpec (ws_ yX4_digit cX4_digit 5 (some .int)) ({ frames := 5, cells := 0, slots := 0, locals := 122 })).room s_ m_ ([.ref X.1.1, .int a0, .int a1] : List Value).toArray below_ meth_ c_ H locs 0 0 (MQ below_ (mQi X out_.1 out_.2 (mA lo hi)) ([.ref X.1.1, .int a0, .int a1] : List Value).toArray s_ 0 0 (mA lo hi)) (F0 m_ 84 ls []) := by
          intro w23_ hw_
          have hd := hq25
          subst hw_
          clear hL24 hq25
          intro H locs ls hW hS hl
          refine lv_iload_n (pc := 84) hx hb dX4_digit_84 rfl (lv_at hl 0 rfl) ?_
          refine lv_bipush (pc := 85) (v := 10) hx hb dX4_digit_85 (by decide) ?_
          refine lv_irem (pc := 87) hx hb dX4_digit_87 (by decide) ?_
          exact mr_iret hx hb hr rfl hlocks (wt_p1 hd) (wt_p2 hd) hW hK hS dX4_digit_88
        have hI31 : ∀ (k30 : Nat) (v22 : Int32 × Int32), wt_wh (bX4_digit_1 a1) k30 v22 = some w23 → ∀ (H : Heap) (locs : List Loc) (ls : Array Slot), mW X w12 H → va_S (mA lo hi) s_.heap H locs → lv_has ls 5 [(2, .int a1), (3, .int v22.1), (4, .int v22.2)] → W p_ l e_ (headSpec (ws_ yX4_digit cX4_digit 5 (some .int)) ({ frames := 5, cells := 0, slots := 0, locals := 122 })).room s_ m_ ([.ref X.1.1, .int a0, .int a1] : List Value).toArray below_ meth_ c_ H locs 0 0 (MQ below_ (mQi X out_.1 out_.2 (mA lo hi)) ([.ref X.1.1, .int a0, .int a1] : List Value).toArray s_ 0 0 (mA lo hi)) (F0 m_ 65 ls []) := by
          intro k30
          induction k30 with
          | zero => intro v22 hd; exact absurd hd wt_wh_z
          | succ k30 ih28 =>
            intro v22 hd
            intro H locs ls hW hS hl
            obtain ⟨r29, hd, hk27⟩ := wt_wh_o hd
            unfold bX4_digit_1 at hd
            refine lv_iload (pc := 65) hx hb dX4_digit_65 (lv_at hl 2 rfl) ?_
            refine lv_iload_n (pc := 67) hx hb dX4_digit_67 rfl (lv_at hl 0 rfl) ?_
            refine lv_iconst (pc := 68) (v := 4) hx hb dX4_digit_68 (by decide) ?_
            refine lv_irem (pc := 69) hx hb dX4_digit_69 (by decide) ?_
            refine lv_icmp_ge (pc := 70) (tgt := 84) hx hb dX4_digit_70 (by decide) (fun c32 => ?_) (fun c32 => ?_)
            · have hd := wt_it hd c32
              exact hX26 v22.1 (wt_exit hd hk27) _ _ _ hW hS (lv_sub hl [1] rfl)
            · have hd := wt_if hd c32
              refine lv_iload_n (pc := 73) hx hb dX4_digit_73 rfl (lv_at hl 1 rfl) ?_
              refine lv_bipush (pc := 74) (v := 10) hx hb dX4_digit_74 (by decide) ?_
              refine lv_idiv (pc := 76) hx hb dX4_digit_76 (by decide) ?_
              obtain ⟨n33, en33, hd⟩ := wt_lt_o hd
              refine lv_tope en33 ?_
              refine lv_istore_n (pc := 77) (lv' := [(3, .int n33), (2, .int a1), (4, .int v22.2)]) hx hb dX4_digit_77 rfl hl (by decide) rfl (fun ls hl => ?_)
              obtain ⟨n34, en34, hd⟩ := wt_lt_o hd
              refine lv_iinc (pc := 78) (k := 2) (v := n34) (lv' := [(4, .int n34), (3, .int n33), (2, .int a1)]) hx hb dX4_digit_78 hl rfl en34.symm (by decide) rfl (fun ls hl => ?_)
              refine lv_goto (pc := 81) (tgt := 65) hx hb dX4_digit_81 (by decide) ?_
              exact ih28 _ (wt_again hd hk27) _ _ _ hW hS (lv_sub hl [2, 1, 0] rfl)
        obtain ⟨k30, hL24⟩ := wt_whC_o hL24
        exact hI31 k30 _ hL24 _ _ _ hW hS (lv_sub hl [4, 1, 0] rfl)
      · have hd := wt_it hd c18
        refine lv_iconst (pc := 49) (v := -1) hx hb dX4_digit_49 (by decide) ?_
        exact mr_iret hx hb hr rfl hlocks (wt_p1 hd) (wt_p2 hd) hW hK hS dX4_digit_50
    · have hd := wt_if hd c11
      refine lv_iconst (pc := 26) (v := 0) hx hb dX4_digit_26 (by decide) ?_
      exact mr_iret hx hb hr rfl hlocks (wt_p1 hd) (wt_p2 hd) hW hK hS dX4_digit_27
  have hd := hj5
  refine lv_if_ne (pc := 11) (tgt := 18) hx hb dX4_digit_11 (by decide) (fun c8 => ?_) (fun c8 => ?_)
  · have hd := wt_if hd c8
    refine lv_iconst (pc := 18) (v := 0) hx hb dX4_digit_18 (by decide) ?_
    exact hX7 (0 : Int32) (Option.some.inj hd) _ _ _ hW hS hl
  · have hd := wt_it hd c8
    refine lv_iconst (pc := 14) (v := 1) hx hb dX4_digit_14 (by decide) ?_
    refine lv_goto (pc := 15) (tgt := 19) hx hb dX4_digit_15 (by decide) ?_
    exact hX7 (1 : Int32) (Option.some.inj hd) _ _ _ hW hS hl
noncomputable def bX4_levels_1 (a1 : Int32) (v1 : Int32 × MSt) : Option ((Int32 × MSt) ⊕ (MSt)) :=
  if a1 ≤ v1.1 then (some (.inr v1.2)) else (wt_bd (dX4_times v1.2 (0 : Int32) (16 : Int32)) fun w12 => wt_lt (v1.1 + (1 : Int32)) fun n14 => some (.inl (n14, w12)))
noncomputable def bX4_levels_2 (a0 : Int32) (v15 : Int32 × MSt) : Option ((Int32 × MSt) ⊕ (MSt)) :=
  if a0 ≤ v15.1 then (some (.inr v15.2)) else (wt_bd (dX4_times v15.2 (1 : Int32) (16 : Int32)) fun w26 => wt_lt (v15.1 + (1 : Int32)) fun n28 => some (.inl (n28, w26)))
noncomputable def dX4_levels (σ : MSt) (a0 : Int32) (a1 : Int32) : Option (MSt) :=
  wt_bd (wt_whC (bX4_levels_1 a1) ((0 : Int32), σ)) fun w2 => wt_bd (wt_whC (bX4_levels_2 a0) ((0 : Int32), w2)) fun w16 => some w16
set_option maxHeartbeats 4000000 in
theorem wX4_levels (l : Launch) {X : MPar} {lo hi : Nat} (hJ : mJ X lo hi) {σ : MSt} {a0 : Int32} {a1 : Int32} {out_ : MSt} (hd : dX4_levels σ a0 a1 = some out_) : Met l yX4_levels (ws_ yX4_levels cX4_levels 4 none) ({ frames := 1, cells := 0, slots := 0, locals := 27 }) (mP X σ [.ref X.1.1, .int a0, .int a1]) (mQv X out_ (mA lo hi)) 0 0 (mA lo hi) := by
  refine Met.ofW (cc := cX4_levels) (maxL := 4) (ret := none) (by decide) rfl ?_
  intro p_ e_ s_ m_ args_ below_ meth_ c_ s₁_ B hml hv
  obtain ⟨rfl, hW, hK⟩ := hv
  have hx := B.exec
  have hb := B.bytes
  have hr := B.returns
  have hts := atoms_spec (ws := (ws_ yX4_levels cX4_levels 4 none)) B.pre
  have hts : ∀ w ∈ lw_all, w.before _ s_ = true := fun w h => hts w (List.mem_cons_of_mem _ h)
  have hown : s_.vm.findClass RX4 = some m_.cls := findClass_of_methodNamed B.named
  have hlocks := B.notSynchronized
  have hS : va_S (mA lo hi) s_.heap s_.heap [] := va_S.rf
  have hl := lv_entry ([.ref X.1.1, .int a0, .int a1]) (n := 4) (Nat.le_of_ble_eq_true rfl)
  rw [lg_entry_eq]
  generalize (lg_sl ([.ref X.1.1, .int a0, .int a1]) ++ List.replicate (4 - (lg_sl ([.ref X.1.1, .int a0, .int a1])).length) Slot.unset).toArray = ls at hl ⊢
  have hl : lv_has ls 4 [(0, .ref X.1.1), (1, .int a0), (2, .int a1)] := hl
  unfold dX4_levels at hd
  refine lv_iconst (pc := 0) (v := 0) hx hb dX4_levels_0 (by decide) ?_
  refine lv_istore_n (pc := 1) (lv' := [(3, .int (0 : Int32)), (0, .ref X.1.1), (1, .int a0), (2, .int a1)]) hx hb dX4_levels_1 rfl hl (by decide) rfl (fun ls hl => ?_)
  obtain ⟨w2, hL3, hq4⟩ := wt_bd_o hd
  have hX5 : ∀ w2_ : MSt, w2_ = w2 → ∀ (H : Heap) (locs : List Loc) (ls : Array Slot), mW X w2_ H → va_S (mA lo hi) s_.heap H locs → lv_has ls 4 [(0, .ref X.1.1), (1, .int a0)] → W p_ l e_ (headSpec (ws_ yX4_levels cX4_levels 4 none) ({ frames := 1, cells := 0, slots := 0, locals := 27 })).room s_ m_ ([.ref X.1.1, .int a0, .int a1] : List Value).toArray below_ meth_ c_ H locs 0 0 (MQ below_ (mQv X out_ (mA lo hi)) ([.ref X.1.1, .int a0, .int a1] : List Value).toArray s_ 0 0 (mA lo hi)) (F0 m_ 20 ls []) := by
    intro w2_ hw_
    have hd := hq4
    subst hw_
    clear hL3 hq4
    intro H locs ls hW hS hl
    refine lv_iconst (pc := 20) (v := 0) hx hb dX4_levels_20 (by decide) ?_
    refine lv_istore_n (pc := 21) (lv' := [(3, .int (0 : Int32)), (0, .ref X.1.1), (1, .int a0)]) hx hb dX4_levels_21 rfl hl (by decide) rfl (fun ls hl => ?_)
    obtain ⟨w16, hL17, hq18⟩ := wt_bd_o hd
    have hX19 : ∀ w16_ : MSt, w16_ = w16 → ∀ (H : Heap) (locs : List Loc) (ls : Array Slot), mW X w16_ H → va_S (mA lo hi) s_.heap H locs → lv_has ls 4 [] → W p_ l e_ (headSpec (ws_ yX4_levels cX4_levels 4 none) ({ frames := 1, cells := 0, slots := 0, locals := 27 })).room s_ m_ ([.ref X.1.1, .int a0, .int a1] : List Value).toArray below_ meth_ c_ H locs 0 0 (MQ below_ (mQv X out_ (mA lo hi)) ([.ref X.1.1, .int a0, .int a1] : List Value).toArray s_ 0 0 (mA lo hi)) (F0 m_ 40 ls []) := by
      intro w16_ hw_
      have hd := hq18
      subst hw_
      clear hL17 hq18
      intro H locs ls hW hS hl
      exact mr_vret hx hb hr hlocks (Option.some.inj hd) hW hK hS dX4_levels_40
    have hI24 : ∀ (k23 : Nat) (v15 : Int32 × MSt), wt_wh (bX4_levels_2 a0) k23 v15 = some w16 → ∀ (H : Heap) (locs : List Loc) (ls : Array Slot), mW X v15.2 H → va_S (mA lo hi) s_.heap H locs → lv_has ls 4 [(0, .ref X.1.1), (1, .int a0), (3, .int v15.1)] → W p_ l e_ (headSpec (ws_ yX4_levels cX4_levels 4 none) ({ frames := 1, cells := 0, slots := 0, locals := 27 })).room s_ m_ ([.ref X.1.1, .int a0, .int a1] : List Value).toArray below_ meth_ c_ H locs 0 0 (MQ below_ (mQv X out_ (mA lo hi)) ([.ref X.1.1, .int a0, .int a1] : List Value).toArray s_ 0 0 (mA lo hi)) (F0 m_ 22 ls []) := by
      intro k23
      induction k23 with
      | zero => intro v15 hd; exact absurd hd wt_wh_z
      | succ k23 ih21 =>
        intro v15 hd
        intro H locs ls hW hS hl
        obtain ⟨r22, hd, hk20⟩ := wt_wh_o hd
        unfold bX4_levels_2 at hd
        refine lv_iload_n (pc := 22) hx hb dX4_levels_22 rfl (lv_at hl 2 rfl) ?_
        refine lv_iload_n (pc := 23) hx hb dX4_levels_23 rfl (lv_at hl 1 rfl) ?_
        refine lv_icmp_ge (pc := 24) (tgt := 40) hx hb dX4_levels_24 (by decide) (fun c25 => ?_) (fun c25 => ?_)
        · have hd := wt_it hd c25
          exact hX19 v15.2 (wt_exit hd hk20) _ _ _ hW hS (lv_sub hl [] rfl)
        · have hd := wt_if hd c25
          refine lv_aload_n (pc := 27) hx hb dX4_levels_27 rfl (lv_at hl 0 rfl) ?_
          refine lv_iconst (pc := 28) (v := 1) hx hb dX4_levels_28 (by decide) ?_
          refine lv_bipush (pc := 29) (v := 16) hx hb dX4_levels_29 (by decide) ?_
          obtain ⟨w26, hc27, hd⟩ := wt_bd_o hd
          refine kX4_times (pc := 31) hx hb hml hown hts hK hJ hW hS hc27 hl.1 (Nat.le_of_ble_eq_true rfl) ⟨Nat.le_of_ble_eq_true rfl, Nat.le_of_ble_eq_true rfl⟩ ⟨Nat.le_refl _, Nat.le_refl _⟩ dX4_levels_31 (fun H locs hW hS => ?_)
          obtain ⟨n28, en28, hd⟩ := wt_lt_o hd
          refine lv_iinc (pc := 34) (k := 2) (v := n28) (lv' := [(3, .int n28), (0, .ref X.1.1), (1, .int a0)]) hx hb dX4_levels_34 hl rfl en28.symm (by decide) rfl (fun ls hl => ?_)
          refine lv_goto (pc := 37) (tgt := 22) hx hb dX4_levels_37 (by decide) ?_
          exact ih21 _ (wt_again hd hk20) _ _ _ hW hS (lv_sub hl [1, 2, 0] rfl)
    obtain ⟨k23, hL17⟩ := wt_whC_o hL17
    exact hI24 k23 _ hL17 _ _ _ hW hS (lv_sub hl [1, 2, 0] rfl)
  have hI10 : ∀ (k9 : Nat) (v1 : Int32 × MSt), wt_wh (bX4_levels_1 a1) k9 v1 = some w2 → ∀ (H : Heap) (locs : List Loc) (ls : Array Slot), mW X v1.2 H → va_S (mA lo hi) s_.heap H locs → lv_has ls 4 [(0, .ref X.1.1), (1, .int a0), (2, .int a1), (3, .int v1.1)] → W p_ l e_ (headSpec (ws_ yX4_levels cX4_levels 4 none) ({ frames := 1, cells := 0, slots := 0, locals := 27 })).room s_ m_ ([.ref X.1.1, .int a0, .int a1] : List Value).toArray below_ meth_ c_ H locs 0 0 (MQ below_ (mQv X out_ (mA lo hi)) ([.ref X.1.1, .int a0, .int a1] : List Value).toArray s_ 0 0 (mA lo hi)) (F0 m_ 2 ls []) := by
    intro k9
    induction k9 with
    | zero => intro v1 hd; exact absurd hd wt_wh_z
    | succ k9 ih7 =>
      intro v1 hd
      intro H locs ls hW hS hl
      obtain ⟨r8, hd, hk6⟩ := wt_wh_o hd
      unfold bX4_levels_1 at hd
      refine lv_iload_n (pc := 2) hx hb dX4_levels_2 rfl (lv_at hl 3 rfl) ?_
      refine lv_iload_n (pc := 3) hx hb dX4_levels_3 rfl (lv_at hl 2 rfl) ?_
      refine lv_icmp_ge (pc := 4) (tgt := 20) hx hb dX4_levels_4 (by decide) (fun c11 => ?_) (fun c11 => ?_)
      · have hd := wt_it hd c11
        exact hX5 v1.2 (wt_exit hd hk6) _ _ _ hW hS (lv_sub hl [0, 1] rfl)
      · have hd := wt_if hd c11
        refine lv_aload_n (pc := 7) hx hb dX4_levels_7 rfl (lv_at hl 0 rfl) ?_
        refine lv_iconst (pc := 8) (v := 0) hx hb dX4_levels_8 (by decide) ?_
        refine lv_bipush (pc := 9) (v := 16) hx hb dX4_levels_9 (by decide) ?_
        obtain ⟨w12, hc13, hd⟩ := wt_bd_o hd
        refine kX4_times (pc := 11) hx hb hml hown hts hK hJ hW hS hc13 hl.1 (Nat.le_of_ble_eq_true rfl) ⟨Nat.le_of_ble_eq_true rfl, Nat.le_of_ble_eq_true rfl⟩ ⟨Nat.le_refl _, Nat.le_refl _⟩ dX4_levels_11 (fun H locs hW hS => ?_)
        obtain ⟨n14, en14, hd⟩ := wt_lt_o hd
        refine lv_iinc (pc := 14) (k := 3) (v := n14) (lv' := [(3, .int n14), (0, .ref X.1.1), (1, .int a0), (2, .int a1)]) hx hb dX4_levels_14 hl rfl en14.symm (by decide) rfl (fun ls hl => ?_)
        refine lv_goto (pc := 17) (tgt := 2) hx hb dX4_levels_17 (by decide) ?_
        exact ih7 _ (wt_again hd hk6) _ _ _ hW hS (lv_sub hl [1, 2, 3, 0] rfl)
  obtain ⟨k9, hL3⟩ := wt_whC_o hL3
  exact hI10 k9 _ hL3 _ _ _ hW hS (lv_sub hl [1, 2, 3, 0] rfl)
theorem kX4_levels {p : Program} {l : Launch} {e : Env} {R : Room} {s : State} {m : MethodId} {args : Array Value} {below : List Frame} {meth : Method} {c : Code} {H : Heap} {locs : List Loc} {cells slots : Nat} {Q : State → Prop} {cc : ByteArray} {pc : Nat} {ls : Array Slot} {rest : List Value} {H0 : Heap} {nL : Nat} {X : MPar} {lo hi : Nat} {σ : MSt} {a0 : Int32} {a1 : Int32} {out_ : MSt} (hx : p.tables.exec = Jvm.exec) (hb : c.code = cc) (hml : c.maxLocals = nL) (hown : s.vm.findClass RX4 = some m.cls) (hts : ∀ w ∈ lw_all, w.before args s = true) (hK : mK X s) (hJ : mJ X lo hi) (hW : mW X σ H) (hS : va_S (mA lo hi) H0 H locs) (hd : dX4_levels σ a0 a1 = some out_) (hsz : ls.size = nL) (hrm : (rest.map fun v => v.category).sum ≤ 8) (hR : 2 ≤ R.frames ∧ 50 ≤ R.locals) (hcs : cells ≤ R.cells ∧ slots ≤ R.slots) (hdg : decode cc pc = .ok (.invokevirtual 281, 3)) (kk : ∀ (H1 : Heap) (locs1 : List Loc), mW X out_ H1 → va_S (mA lo hi) H0 H1 locs1 → W p l e R s m args below meth c H1 locs1 cells slots Q (F0 m (pc + 3) ls (rest))) : W p l e R s m args below meth c H locs cells slots Q (F0 m pc ls (.int a1 :: .int a0 :: .ref X.1.1 :: rest)) := by
  refine va_callv (va_runV (As := [.int a0, .int a1]) (rest := rest) ⟨hx, hb, hml, hown, hts⟩ (wX4_levels l hJ hd) (cwV 2 hts (lw_V q1889 q1891 qs55 q88 q1892) rfl rfl rfl (by decide +kernel) hR) (mr_pre hK hW) rfl rfl hsz rfl (lv_room hrm) hdg hcs) hS (fun _ _ h => h) (fun _ h => h) (fun u t H1 locs1 ht hvm hp hB hz hk hS1 => ?_)
  have hW1 : mW X out_ t.heap := hB.1
  rw [ht] at hW1
  exact kk H1 locs1 hW1 hS1
noncomputable def dX4_two (σ : MSt) (a0 : Int32) (a1 : Int32) (a2 : Int32) : Option (MSt) :=
  wt_bd (dX4_numbers σ (0 : Int32) a0 a2) fun w1 => wt_lt ((w1.1 49)) fun n3 => wt_bd (dX4_numbers w1 (1 : Int32) a1 a2) fun w4 => wt_bd (dX4_levels w4 n3 (w4.1 49)) fun w6 => some w6
set_option maxHeartbeats 4000000 in
theorem wX4_two (l : Launch) {X : MPar} {lo hi : Nat} (hJ : mJ X lo hi) {σ : MSt} {a0 : Int32} {a1 : Int32} {a2 : Int32} {out_ : MSt} (hd : dX4_two σ a0 a1 a2 = some out_) : Met l yX4_two (ws_ yX4_two cX4_two 5 none) ({ frames := 5, cells := 0, slots := 0, locals := 122 }) (mP X σ [.ref X.1.1, .int a0, .int a1, .int a2]) (mQv X out_ (mA lo hi)) 0 0 (mA lo hi) := by
  refine Met.ofW (cc := cX4_two) (maxL := 5) (ret := none) (by decide) rfl ?_
  intro p_ e_ s_ m_ args_ below_ meth_ c_ s₁_ B hml hv
  obtain ⟨rfl, hW, hK⟩ := hv
  have hx := B.exec
  have hb := B.bytes
  have hr := B.returns
  have hts := atoms_spec (ws := (ws_ yX4_two cX4_two 5 none)) B.pre
  have hts : ∀ w ∈ lw_all, w.before _ s_ = true := fun w h => hts w (List.mem_cons_of_mem _ h)
  have hown : s_.vm.findClass RX4 = some m_.cls := findClass_of_methodNamed B.named
  have hlocks := B.notSynchronized
  have hS : va_S (mA lo hi) s_.heap s_.heap [] := va_S.rf
  have hl := lv_entry ([.ref X.1.1, .int a0, .int a1, .int a2]) (n := 5) (Nat.le_of_ble_eq_true rfl)
  rw [lg_entry_eq]
  generalize (lg_sl ([.ref X.1.1, .int a0, .int a1, .int a2]) ++ List.replicate (5 - (lg_sl ([.ref X.1.1, .int a0, .int a1, .int a2])).length) Slot.unset).toArray = ls at hl ⊢
  have hl : lv_has ls 5 [(0, .ref X.1.1), (1, .int a0), (2, .int a1), (3, .int a2)] := hl
  unfold dX4_two at hd
  refine lv_aload_n (pc := 0) hx hb dX4_two_0 rfl (lv_at hl 0 rfl) ?_
  refine lv_iconst (pc := 1) (v := 0) hx hb dX4_two_1 (by decide) ?_
  refine lv_iload_n (pc := 2) hx hb dX4_two_2 rfl (lv_at hl 1 rfl) ?_
  refine lv_iload_n (pc := 3) hx hb dX4_two_3 rfl (lv_at hl 3 rfl) ?_
  obtain ⟨w1, hc2, hd⟩ := wt_bd_o hd
  refine kX4_numbers (pc := 4) hx hb hml hown hts hK hJ hW hS hc2 hl.1 (Nat.le_of_ble_eq_true rfl) ⟨Nat.le_of_ble_eq_true rfl, Nat.le_of_ble_eq_true rfl⟩ ⟨Nat.le_refl _, Nat.le_refl _⟩ dX4_two_4 (fun H locs hW hS => ?_)
  refine lv_aload_n (pc := 7) hx hb dX4_two_7 rfl (lv_at hl 0 rfl) ?_
  refine mr_get (pc := 8) (k := 49) (v := .int ((w1.1 49))) hx hb hts hown hK hW (by decide) rfl q1578 dX4_two_8 ?_
  obtain ⟨n3, en3, hd⟩ := wt_lt_o hd
  refine lv_tope en3 ?_
  refine lv_istore (pc := 11) (lv' := [(4, .int n3), (0, .ref X.1.1), (1, .int a0), (2, .int a1), (3, .int a2)]) hx hb dX4_two_11 hl (by decide) rfl (fun ls hl => ?_)
  refine lv_aload_n (pc := 13) hx hb dX4_two_13 rfl (lv_at hl 1 rfl) ?_
  refine lv_iconst (pc := 14) (v := 1) hx hb dX4_two_14 (by decide) ?_
  refine lv_iload_n (pc := 15) hx hb dX4_two_15 rfl (lv_at hl 3 rfl) ?_
  refine lv_iload_n (pc := 16) hx hb dX4_two_16 rfl (lv_at hl 4 rfl) ?_
  obtain ⟨w4, hc5, hd⟩ := wt_bd_o hd
  refine kX4_numbers (pc := 17) hx hb hml hown hts hK hJ hW hS hc5 hl.1 (Nat.le_of_ble_eq_true rfl) ⟨Nat.le_of_ble_eq_true rfl, Nat.le_of_ble_eq_true rfl⟩ ⟨Nat.le_refl _, Nat.le_refl _⟩ dX4_two_17 (fun H locs hW hS => ?_)
  refine lv_aload_n (pc := 20) hx hb dX4_two_20 rfl (lv_at hl 1 rfl) ?_
  refine lv_iload (pc := 21) hx hb dX4_two_21 (lv_at hl 0 rfl) ?_
  refine lv_aload_n (pc := 23) hx hb dX4_two_23 rfl (lv_at hl 1 rfl) ?_
  refine mr_get (pc := 24) (k := 49) (v := .int ((w4.1 49))) hx hb hts hown hK hW (by decide) rfl q1578 dX4_two_24 ?_
  obtain ⟨w6, hc7, hd⟩ := wt_bd_o hd
  refine kX4_levels (pc := 27) hx hb hml hown hts hK hJ hW hS hc7 hl.1 (Nat.le_of_ble_eq_true rfl) ⟨Nat.le_of_ble_eq_true rfl, Nat.le_of_ble_eq_true rfl⟩ ⟨Nat.le_refl _, Nat.le_refl _⟩ dX4_two_27 (fun H locs hW hS => ?_)
  exact mr_vret hx hb hr hlocks (Option.some.inj hd) hW hK hS dX4_two_30
theorem kX4_two {p : Program} {l : Launch} {e : Env} {R : Room} {s : State} {m : MethodId} {args : Array Value} {below : List Frame} {meth : Method} {c : Code} {H : Heap} {locs : List Loc} {cells slots : Nat} {Q : State → Prop} {cc : ByteArray} {pc : Nat} {ls : Array Slot} {rest : List Value} {H0 : Heap} {nL : Nat} {X : MPar} {lo hi : Nat} {σ : MSt} {a0 : Int32} {a1 : Int32} {a2 : Int32} {out_ : MSt} (hx : p.tables.exec = Jvm.exec) (hb : c.code = cc) (hml : c.maxLocals = nL) (hown : s.vm.findClass RX4 = some m.cls) (hts : ∀ w ∈ lw_all, w.before args s = true) (hK : mK X s) (hJ : mJ X lo hi) (hW : mW X σ H) (hS : va_S (mA lo hi) H0 H locs) (hd : dX4_two σ a0 a1 a2 = some out_) (hsz : ls.size = nL) (hrm : (rest.map fun v => v.category).sum ≤ 8) (hR : 6 ≤ R.frames ∧ 146 ≤ R.locals) (hcs : cells ≤ R.cells ∧ slots ≤ R.slots) (hdg : decode cc pc = .ok (.invokevirtual 284, 3)) (kk : ∀ (H1 : Heap) (locs1 : List Loc), mW X out_ H1 → va_S (mA lo hi) H0 H1 locs1 → W p l e R s m args below meth c H1 locs1 cells slots Q (F0 m (pc + 3) ls (rest))) : W p l e R s m args below meth c H locs cells slots Q (F0 m pc ls (.int a2 :: .int a1 :: .int a0 :: .ref X.1.1 :: rest)) := by
  refine va_callv (va_runV (As := [.int a0, .int a1, .int a2]) (rest := rest) ⟨hx, hb, hml, hown, hts⟩ (wX4_two l hJ hd) (cwV 3 hts (lw_V q1885 q1887 qs54 q88 q1888) rfl rfl rfl (by decide +kernel) hR) (mr_pre hK hW) rfl rfl hsz rfl (lv_room hrm) hdg hcs) hS (fun _ _ h => h) (fun _ h => h) (fun u t H1 locs1 ht hvm hp hB hz hk hS1 => ?_)
  have hW1 : mW X out_ t.heap := hB.1
  rw [ht] at hW1
  exact kk H1 locs1 hW1 hS1
noncomputable def bX4_compare_1 (σ : MSt) (a0 : Int32) (a1 : Int32) (v1 : Int32) : Option ((Int32) ⊕ ((Unit) ⊕ (Int32))) :=
  if v1 < 0 then (some (.inr (.inl ()))) else (wt_ck (vp_in a0 3) <| wt_ck (vp_in v1 330) <| wt_ck (vp_in a1 3) <| wt_ck (vp_in v1 330) <| if (σ.2.2 48 (a0.toNatClampNeg) v1.toNatClampNeg) = (σ.2.2 48 (a1.toNatClampNeg) v1.toNatClampNeg) then (wt_lt (v1 + (-1 : Int32)) fun n17 => some (.inl n17)) else (wt_ck (vp_in a0 3) <| wt_ck (vp_in v1 330) <| wt_ck (vp_in a1 3) <| wt_ck (vp_in v1 330) <| if (σ.2.2 48 (a0.toNatClampNeg) v1.toNatClampNeg) ≤ (σ.2.2 48 (a1.toNatClampNeg) v1.toNatClampNeg) then (some (.inr (.inr (-1 : Int32)))) else (some (.inr (.inr (1 : Int32))))))
noncomputable def dX4_compare (σ : MSt) (a0 : Int32) (a1 : Int32) : Option (Int32) :=
  wt_bd (wt_whC (bX4_compare_1 σ a0 a1) (329 : Int32)) fun w2 => wt_rs w2 (fun w2 => some (0 : Int32)) (fun z_ => some z_)
set_option maxHeartbeats 4000000 in
theorem wX4_compare (l : Launch) {X : MPar} {lo hi : Nat} (hJ : mJ X lo hi) {σ : MSt} {a0 : Int32} {a1 : Int32} {out_ : Int32} (hd : dX4_compare σ a0 a1 = some out_) : Met l yX4_compare (ws_ yX4_compare cX4_compare 4 (some .int)) ({ frames := 0, cells := 0, slots := 0, locals := 0 }) (mP X σ [.ref X.1.1, .int a0, .int a1]) (mQi X out_ σ (mA lo hi)) 0 0 (mA lo hi) := by
  refine Met.ofW (cc := cX4_compare) (maxL := 4) (ret := (some .int)) (by decide) rfl ?_
  intro p_ e_ s_ m_ args_ below_ meth_ c_ s₁_ B hml hv
  obtain ⟨rfl, hW, hK⟩ := hv
  have hx := B.exec
  have hb := B.bytes
  have hr := B.returns
  have hts := atoms_spec (ws := (ws_ yX4_compare cX4_compare 4 (some .int))) B.pre
  have hts : ∀ w ∈ lw_all, w.before _ s_ = true := fun w h => hts w (List.mem_cons_of_mem _ h)
  have hown : s_.vm.findClass RX4 = some m_.cls := findClass_of_methodNamed B.named
  have hlocks := B.notSynchronized
  have hS : va_S (mA lo hi) s_.heap s_.heap [] := va_S.rf
  have hl := lv_entry ([.ref X.1.1, .int a0, .int a1]) (n := 4) (Nat.le_of_ble_eq_true rfl)
  rw [lg_entry_eq]
  generalize (lg_sl ([.ref X.1.1, .int a0, .int a1]) ++ List.replicate (4 - (lg_sl ([.ref X.1.1, .int a0, .int a1])).length) Slot.unset).toArray = ls at hl ⊢
  have hl : lv_has ls 4 [(0, .ref X.1.1), (1, .int a0), (2, .int a1)] := hl
  unfold dX4_compare at hd
  refine lv_sipush (pc := 0) (v := 329) hx hb dX4_compare_0 (by decide) ?_
  refine lv_istore_n (pc := 3) (lv' := [(3, .int (329 : Int32)), (0, .ref X.1.1), (1, .int a0), (2, .int a1)]) hx hb dX4_compare_3 rfl hl (by decide) rfl (fun ls hl => ?_)
  obtain ⟨w2, hL3, hq4⟩ := wt_bd_o hd
  have hX5 : ∀ w2_ : Unit, (Sum.inl w2_ : (Unit) ⊕ _) = w2 → ∀ (H : Heap) (locs : List Loc) (ls : Array Slot), mW X σ H → va_S (mA lo hi) s_.heap H locs → lv_has ls 4 [] → W p_ l e_ (headSpec (ws_ yX4_compare cX4_compare 4 (some .int)) ({ frames := 0, cells := 0, slots := 0, locals := 0 })).room s_ m_ ([.ref X.1.1, .int a0, .int a1] : List Value).toArray below_ meth_ c_ H locs 0 0 (MQ below_ (mQi X out_ σ (mA lo hi)) ([.ref X.1.1, .int a0, .int a1] : List Value).toArray s_ 0 0 (mA lo hi)) (F0 m_ 58 ls []) := by
    intro w2_ hw_
    have hd := wt_rs_l hw_ hq4
    clear hL3 hq4
    intro H locs ls hW hS hl
    refine lv_iconst (pc := 58) (v := 0) hx hb dX4_compare_58 (by decide) ?_
    exact mr_iret hx hb hr rfl hlocks (Option.some.inj hd) rfl hW hK hS dX4_compare_59
  have hI10 : ∀ (k9 : Nat) (v1 : Int32), wt_wh (bX4_compare_1 σ a0 a1) k9 v1 = some w2 → ∀ (H : Heap) (locs : List Loc) (ls : Array Slot), mW X σ H → va_S (mA lo hi) s_.heap H locs → lv_has ls 4 [(0, .ref X.1.1), (1, .int a0), (2, .int a1), (3, .int v1)] → W p_ l e_ (headSpec (ws_ yX4_compare cX4_compare 4 (some .int)) ({ frames := 0, cells := 0, slots := 0, locals := 0 })).room s_ m_ ([.ref X.1.1, .int a0, .int a1] : List Value).toArray below_ meth_ c_ H locs 0 0 (MQ below_ (mQi X out_ σ (mA lo hi)) ([.ref X.1.1, .int a0, .int a1] : List Value).toArray s_ 0 0 (mA lo hi)) (F0 m_ 4 ls []) := by
    intro k9
    induction k9 with
    | zero => intro v1 hd; exact absurd hd wt_wh_z
    | succ k9 ih7 =>
      intro v1 hd
      intro H locs ls hW hS hl
      obtain ⟨r8, hd, hk6⟩ := wt_wh_o hd
      unfold bX4_compare_1 at hd
      refine lv_iload_n (pc := 4) hx hb dX4_compare_4 rfl (lv_at hl 3 rfl) ?_
      refine lv_if_lt (pc := 5) (tgt := 58) hx hb dX4_compare_5 (by decide) (fun c11 => ?_) (fun c11 => ?_)
      · have hd := wt_it hd c11
        exact hX5 () (wt_exit hd hk6) _ _ _ hW hS (lv_sub hl [] rfl)
      · have hd := wt_if hd c11
        refine lv_aload_n (pc := 8) hx hb dX4_compare_8 rfl (lv_at hl 0 rfl) ?_
        refine mr_get (pc := 9) (k := 48) (v := .ref (X.1.2.1 48)) hx hb hts hown hK hW (by decide) rfl q1577 dX4_compare_9 ?_
        refine lv_iload_n (pc := 12) hx hb dX4_compare_12 rfl (lv_at hl 1 rfl) ?_
        obtain ⟨h12, hd⟩ := wt_ck_o hd
        refine mr_row (pc := 13) (k := 48) hx hb hK hW rfl h12 dX4_compare_13 ?_
        refine lv_iload_n (pc := 14) hx hb dX4_compare_14 rfl (lv_at hl 3 rfl) ?_
        obtain ⟨h13, hd⟩ := wt_ck_o hd
        refine mr_gld (pc := 15) (k := 48) (i := (a0.toNatClampNeg)) hx hb hK hW (vp_lt h12) rfl h13 dX4_compare_15 ?_
        refine lv_aload_n (pc := 16) hx hb dX4_compare_16 rfl (lv_at hl 0 rfl) ?_
        refine mr_get (pc := 17) (k := 48) (v := .ref (X.1.2.1 48)) hx hb hts hown hK hW (by decide) rfl q1577 dX4_compare_17 ?_
        refine lv_iload_n (pc := 20) hx hb dX4_compare_20 rfl (lv_at hl 2 rfl) ?_
        obtain ⟨h14, hd⟩ := wt_ck_o hd
        refine mr_row (pc := 21) (k := 48) hx hb hK hW rfl h14 dX4_compare_21 ?_
        refine lv_iload_n (pc := 22) hx hb dX4_compare_22 rfl (lv_at hl 3 rfl) ?_
        obtain ⟨h15, hd⟩ := wt_ck_o hd
        refine mr_gld (pc := 23) (k := 48) (i := (a1.toNatClampNeg)) hx hb hK hW (vp_lt h14) rfl h15 dX4_compare_23 ?_
        refine lv_icmp_eq (pc := 24) (tgt := 52) hx hb dX4_compare_24 (by decide) (fun c16 => ?_) (fun c16 => ?_)
        · have hd := wt_it hd c16
          obtain ⟨n17, en17, hd⟩ := wt_lt_o hd
          refine lv_iinc (pc := 52) (k := 3) (v := n17) (lv' := [(3, .int n17), (0, .ref X.1.1), (1, .int a0), (2, .int a1)]) hx hb dX4_compare_52 hl rfl en17.symm (by decide) rfl (fun ls hl => ?_)
          refine lv_goto (pc := 55) (tgt := 4) hx hb dX4_compare_55 (by decide) ?_
          exact ih7 _ (wt_again hd hk6) _ _ _ hW hS (lv_sub hl [1, 2, 3, 0] rfl)
        · have hd := wt_if hd c16
          refine lv_aload_n (pc := 27) hx hb dX4_compare_27 rfl (lv_at hl 0 rfl) ?_
          refine mr_get (pc := 28) (k := 48) (v := .ref (X.1.2.1 48)) hx hb hts hown hK hW (by decide) rfl q1577 dX4_compare_28 ?_
          refine lv_iload_n (pc := 31) hx hb dX4_compare_31 rfl (lv_at hl 1 rfl) ?_
          obtain ⟨h18, hd⟩ := wt_ck_o hd
          refine mr_row (pc := 32) (k := 48) hx hb hK hW rfl h18 dX4_compare_32 ?_
          refine lv_iload_n (pc := 33) hx hb dX4_compare_33 rfl (lv_at hl 3 rfl) ?_
          obtain ⟨h19, hd⟩ := wt_ck_o hd
          refine mr_gld (pc := 34) (k := 48) (i := (a0.toNatClampNeg)) hx hb hK hW (vp_lt h18) rfl h19 dX4_compare_34 ?_
          refine lv_aload_n (pc := 35) hx hb dX4_compare_35 rfl (lv_at hl 0 rfl) ?_
          refine mr_get (pc := 36) (k := 48) (v := .ref (X.1.2.1 48)) hx hb hts hown hK hW (by decide) rfl q1577 dX4_compare_36 ?_
          refine lv_iload_n (pc := 39) hx hb dX4_compare_39 rfl (lv_at hl 2 rfl) ?_
          obtain ⟨h20, hd⟩ := wt_ck_o hd
          refine mr_row (pc := 40) (k := 48) hx hb hK hW rfl h20 dX4_compare_40 ?_
          refine lv_iload_n (pc := 41) hx hb dX4_compare_41 rfl (lv_at hl 3 rfl) ?_
          obtain ⟨h21, hd⟩ := wt_ck_o hd
          refine mr_gld (pc := 42) (k := 48) (i := (a1.toNatClampNeg)) hx hb hK hW (vp_lt h20) rfl h21 dX4_compare_42 ?_
          refine lv_icmp_le (pc := 43) (tgt := 50) hx hb dX4_compare_43 (by decide) (fun c22 => ?_) (fun c22 => ?_)
          · have hd := wt_it hd c22
            refine lv_iconst (pc := 50) (v := -1) hx hb dX4_compare_50 (by decide) ?_
            have hd := wt_rs_r (wt_exit hd hk6) hq4
            exact mr_iret hx hb hr rfl hlocks (Option.some.inj hd) rfl hW hK hS dX4_compare_51
          · have hd := wt_if hd c22
            refine lv_iconst (pc := 46) (v := 1) hx hb dX4_compare_46 (by decide) ?_
            refine lv_goto (pc := 47) (tgt := 51) hx hb dX4_compare_47 (by decide) ?_
            have hd := wt_rs_r (wt_exit hd hk6) hq4
            exact mr_iret hx hb hr rfl hlocks (Option.some.inj hd) rfl hW hK hS dX4_compare_51
  obtain ⟨k9, hL3⟩ := wt_whC_o hL3
  exact hI10 k9 _ hL3 _ _ _ hW hS (lv_sub hl [1, 2, 3, 0] rfl)
theorem kX4_compare {p : Program} {l : Launch} {e : Env} {R : Room} {s : State} {m : MethodId} {args : Array Value} {below : List Frame} {meth : Method} {c : Code} {H : Heap} {locs : List Loc} {cells slots : Nat} {Q : State → Prop} {cc : ByteArray} {pc : Nat} {ls : Array Slot} {rest : List Value} {H0 : Heap} {nL : Nat} {X : MPar} {lo hi : Nat} {σ : MSt} {a0 : Int32} {a1 : Int32} {out_ : Int32} (hx : p.tables.exec = Jvm.exec) (hb : c.code = cc) (hml : c.maxLocals = nL) (hown : s.vm.findClass RX4 = some m.cls) (hts : ∀ w ∈ lw_all, w.before args s = true) (hK : mK X s) (hJ : mJ X lo hi) (hW : mW X σ H) (hS : va_S (mA lo hi) H0 H locs) (hd : dX4_compare σ a0 a1 = some out_) (hsz : ls.size = nL) (hrm : (rest.map fun v => v.category).sum ≤ 8) (hR : 1 ≤ R.frames ∧ 23 ≤ R.locals) (hcs : cells ≤ R.cells ∧ slots ≤ R.slots) (hdg : decode cc pc = .ok (.invokevirtual 272, 3)) (kk : ∀ (H1 : Heap) (locs1 : List Loc), mW X σ H1 → va_S (mA lo hi) H0 H1 locs1 → W p l e R s m args below meth c H1 locs1 cells slots Q (F0 m (pc + 3) ls (.int out_ :: rest))) : W p l e R s m args below meth c H locs cells slots Q (F0 m pc ls (.int a1 :: .int a0 :: .ref X.1.1 :: rest)) := by
  refine va_calli (va_runV (As := [.int a0, .int a1]) (rest := rest) ⟨hx, hb, hml, hown, hts⟩ (wX4_compare l hJ hd) (cwV 2 hts (lw_V q1893 q1895 qs56 q88 q1896) rfl rfl rfl (by decide +kernel) hR) (mr_pre hK hW) rfl rfl hsz rfl (lv_room hrm) hdg hcs) hS (fun _ _ h => h) (fun _ h => h) (fun r u t H1 locs1 ht hvm hp hB hz hk hS1 => ?_)
  have hp : r = out_ := hp
  subst hp
  have hW1 : mW X σ t.heap := hB.1
  rw [ht] at hW1
  exact kk H1 locs1 hW1 hS1
noncomputable def dX4_weighed (σ : MSt) (a0 : Int32) (a1 : Int32) : Option (Int32 × MSt) :=
  wt_lt (m_sF σ 0 (0 : Int32)) fun σ1 => wt_bd (dX4_isStory σ1 a0) fun w2 => wt_bd (if w2 = 0 then (some (.inl ())) else (wt_bd (dX4_isStory σ1 a1) fun w9 => if w9 = 0 then (some (.inl ())) else (wt_bd (dX4_bad σ1 (0 : Int32) (1 : Int32)) fun w12 => if w12.1 = 0 then (wt_bd (dX4_two w12.2 a0 a1 (-1 : Int32)) fun w15 => wt_bd (dX4_compare w15 (0 : Int32) (1 : Int32)) fun w17 => some (.inr (w17, w15))) else (some (.inr ((0 : Int32), w12.2)))))) fun w4 => wt_rs w4 (fun w4 => wt_bd (dX4_bad σ1 (1 : Int32) (1 : Int32)) fun w19 => if w19.1 = 0 then (wt_bd (dX4_two w19.2 a0 a1 (-1 : Int32)) fun w22 => wt_bd (dX4_compare w22 (0 : Int32) (1 : Int32)) fun w24 => some (w24, w22)) else (some ((0 : Int32), w19.2))) (fun z_ => some z_)
set_option maxHeartbeats 4000000 in
theorem wX4_weighed (l : Launch) {X : MPar} {lo hi : Nat} (hJ : mJ X lo hi) {σ : MSt} {a0 : Int32} {a1 : Int32} {out_ : Int32 × MSt} (hd : dX4_weighed σ a0 a1 = some out_) : Met l yX4_weighed (ws_ yX4_weighed cX4_weighed 3 (some .int)) ({ frames := 6, cells := 0, slots := 0, locals := 146 }) (mP X σ [.ref X.1.1, .int a0, .int a1]) (mQi X out_.1 out_.2 (mA lo hi)) 0 0 (mA lo hi) := by
  refine Met.ofW (cc := cX4_weighed) (maxL := 3) (ret := (some .int)) (by decide) rfl ?_
  intro p_ e_ s_ m_ args_ below_ meth_ c_ s₁_ B hml hv
  obtain ⟨rfl, hW, hK⟩ := hv
  have hx := B.exec
  have hb := B.bytes
  have hr := B.returns
  have hts := atoms_spec (ws := (ws_ yX4_weighed cX4_weighed 3 (some .int))) B.pre
  have hts : ∀ w ∈ lw_all, w.before _ s_ = true := fun w h => hts w (List.mem_cons_of_mem _ h)
  have hown : s_.vm.findClass RX4 = some m_.cls := findClass_of_methodNamed B.named
  have hlocks := B.notSynchronized
  have hS : va_S (mA lo hi) s_.heap s_.heap [] := va_S.rf
  have hl := lv_entry ([.ref X.1.1, .int a0, .int a1]) (n := 3) (Nat.le_of_ble_eq_true rfl)
  rw [lg_entry_eq]
  generalize (lg_sl ([.ref X.1.1, .int a0, .int a1]) ++ List.replicate (3 - (lg_sl ([.ref X.1.1, .int a0, .int a1])).length) Slot.unset).toArray = ls at hl ⊢
  have hl : lv_has ls 3 [(0, .ref X.1.1), (1, .int a0), (2, .int a1)] := hl
  unfold dX4_weighed at hd
  refine lv_aload_n (pc := 0) hx hb dX4_weighed_0 rfl (lv_at hl 0 rfl) ?_
  refine lv_iconst (pc := 1) (v := 0) hx hb dX4_weighed_1 (by decide) ?_
  obtain ⟨σ1, eσ1, hd⟩ := wt_lt_o hd
  refine mr_put (pc := 2) (k := 0) hx hb hts hown hK hW hJ hS (by decide) rfl eσ1 q1529 dX4_weighed_2 (fun H locs hW hS => ?_)
  refine lv_aload_n (pc := 5) hx hb dX4_weighed_5 rfl (lv_at hl 0 rfl) ?_
  refine lv_aload_n (pc := 6) hx hb dX4_weighed_6 rfl (lv_at hl 0 rfl) ?_
  refine lv_iload_n (pc := 7) hx hb dX4_weighed_7 rfl (lv_at hl 1 rfl) ?_
  obtain ⟨w2, hc3, hd⟩ := wt_bd_o hd
  refine kX4_isStory (pc := 8) hx hb hml hown hts hK hJ hW hS hc3 hl.1 (Nat.le_of_ble_eq_true rfl) ⟨Nat.le_of_ble_eq_true rfl, Nat.le_of_ble_eq_true rfl⟩ ⟨Nat.le_refl _, Nat.le_refl _⟩ dX4_weighed_8 (fun H locs hW hS => ?_)
  obtain ⟨w4, hj5, hq6⟩ := wt_bd_o hd
  have hX7 : ∀ w4_ : Unit, (Sum.inl w4_ : Unit ⊕ _) = w4 → ∀ (H : Heap) (locs : List Loc) (ls : Array Slot), mW X σ1 H → va_S (mA lo hi) s_.heap H locs → lv_has ls 3 [(0, .ref X.1.1), (1, .int a0), (2, .int a1)] → W p_ l e_ (headSpec (ws_ yX4_weighed cX4_weighed 3 (some .int)) ({ frames := 6, cells := 0, slots := 0, locals := 146 })).room s_ m_ ([.ref X.1.1, .int a0, .int a1] : List Value).toArray below_ meth_ c_ H locs 0 0 (MQ below_ (mQi X out_.1 out_.2 (mA lo hi)) ([.ref X.1.1, .int a0, .int a1] : List Value).toArray s_ 0 0 (mA lo hi)) (F0 m_ 22 ls [.ref X.1.1]) := by
    intro w4_ hw_
    have hd := wt_rs_l hw_ hq6
    clear hj5 hq6
    intro H locs ls hW hS hl
    refine lv_iconst (pc := 22) (v := 1) hx hb dX4_weighed_22 (by decide) ?_
    refine lv_goto (pc := 23) (tgt := 27) hx hb dX4_weighed_23 (by decide) ?_
    refine lv_iconst (pc := 27) (v := 1) hx hb dX4_weighed_27 (by decide) ?_
    obtain ⟨w19, hc20, hd⟩ := wt_bd_o hd
    refine kX4_bad (pc := 28) hx hb hml hown hts hK hJ hW hS hc20 hl.1 (Nat.le_of_ble_eq_true rfl) ⟨Nat.le_of_ble_eq_true rfl, Nat.le_of_ble_eq_true rfl⟩ ⟨Nat.le_refl _, Nat.le_refl _⟩ dX4_weighed_28 (fun H locs hW hS => ?_)
    refine lv_if_eq (pc := 31) (tgt := 36) hx hb dX4_weighed_31 (by decide) (fun c21 => ?_) (fun c21 => ?_)
    · have hd := wt_it hd c21
      refine lv_aload_n (pc := 36) hx hb dX4_weighed_36 rfl (lv_at hl 0 rfl) ?_
      refine lv_iload_n (pc := 37) hx hb dX4_weighed_37 rfl (lv_at hl 1 rfl) ?_
      refine lv_iload_n (pc := 38) hx hb dX4_weighed_38 rfl (lv_at hl 2 rfl) ?_
      refine lv_iconst (pc := 39) (v := -1) hx hb dX4_weighed_39 (by decide) ?_
      obtain ⟨w22, hc23, hd⟩ := wt_bd_o hd
      refine kX4_two (pc := 40) hx hb hml hown hts hK hJ hW hS hc23 hl.1 (Nat.le_of_ble_eq_true rfl) ⟨Nat.le_of_ble_eq_true rfl, Nat.le_of_ble_eq_true rfl⟩ ⟨Nat.le_refl _, Nat.le_refl _⟩ dX4_weighed_40 (fun H locs hW hS => ?_)
      refine lv_aload_n (pc := 43) hx hb dX4_weighed_43 rfl (lv_at hl 0 rfl) ?_
      refine lv_iconst (pc := 44) (v := 0) hx hb dX4_weighed_44 (by decide) ?_
      refine lv_iconst (pc := 45) (v := 1) hx hb dX4_weighed_45 (by decide) ?_
      obtain ⟨w24, hc25, hd⟩ := wt_bd_o hd
      refine kX4_compare (pc := 46) hx hb hml hown hts hK hJ hW hS hc25 hl.1 (Nat.le_of_ble_eq_true rfl) ⟨Nat.le_of_ble_eq_true rfl, Nat.le_of_ble_eq_true rfl⟩ ⟨Nat.le_refl _, Nat.le_refl _⟩ dX4_weighed_46 (fun H locs hW hS => ?_)
      exact mr_iret hx hb hr rfl hlocks (wt_p1 hd) (wt_p2 hd) hW hK hS dX4_weighed_49
    · have hd := wt_if hd c21
      refine lv_iconst (pc := 34) (v := 0) hx hb dX4_weighed_34 (by decide) ?_
      exact mr_iret hx hb hr rfl hlocks (wt_p1 hd) (wt_p2 hd) hW hK hS dX4_weighed_35
  have hd := hj5
  refine lv_if_eq (pc := 11) (tgt := 22) hx hb dX4_weighed_11 (by decide) (fun c8 => ?_) (fun c8 => ?_)
  · have hd := wt_it hd c8
    exact hX7 () (Option.some.inj hd) _ _ _ hW hS hl
  · have hd := wt_if hd c8
    refine lv_aload_n (pc := 14) hx hb dX4_weighed_14 rfl (lv_at hl 0 rfl) ?_
    refine lv_iload_n (pc := 15) hx hb dX4_weighed_15 rfl (lv_at hl 2 rfl) ?_
    obtain ⟨w9, hc10, hd⟩ := wt_bd_o hd
    refine kX4_isStory (pc := 16) hx hb hml hown hts hK hJ hW hS hc10 hl.1 (Nat.le_of_ble_eq_true rfl) ⟨Nat.le_of_ble_eq_true rfl, Nat.le_of_ble_eq_true rfl⟩ ⟨Nat.le_refl _, Nat.le_refl _⟩ dX4_weighed_16 (fun H locs hW hS => ?_)
    refine lv_if_ne (pc := 19) (tgt := 26) hx hb dX4_weighed_19 (by decide) (fun c11 => ?_) (fun c11 => ?_)
    · have hd := wt_if hd c11
      refine lv_iconst (pc := 26) (v := 0) hx hb dX4_weighed_26 (by decide) ?_
      refine lv_iconst (pc := 27) (v := 1) hx hb dX4_weighed_27 (by decide) ?_
      obtain ⟨w12, hc13, hd⟩ := wt_bd_o hd
      refine kX4_bad (pc := 28) hx hb hml hown hts hK hJ hW hS hc13 hl.1 (Nat.le_of_ble_eq_true rfl) ⟨Nat.le_of_ble_eq_true rfl, Nat.le_of_ble_eq_true rfl⟩ ⟨Nat.le_refl _, Nat.le_refl _⟩ dX4_weighed_28 (fun H locs hW hS => ?_)
      refine lv_if_eq (pc := 31) (tgt := 36) hx hb dX4_weighed_31 (by decide) (fun c14 => ?_) (fun c14 => ?_)
      · have hd := wt_it hd c14
        refine lv_aload_n (pc := 36) hx hb dX4_weighed_36 rfl (lv_at hl 0 rfl) ?_
        refine lv_iload_n (pc := 37) hx hb dX4_weighed_37 rfl (lv_at hl 1 rfl) ?_
        refine lv_iload_n (pc := 38) hx hb dX4_weighed_38 rfl (lv_at hl 2 rfl) ?_
        refine lv_iconst (pc := 39) (v := -1) hx hb dX4_weighed_39 (by decide) ?_
        obtain ⟨w15, hc16, hd⟩ := wt_bd_o hd
        refine kX4_two (pc := 40) hx hb hml hown hts hK hJ hW hS hc16 hl.1 (Nat.le_of_ble_eq_true rfl) ⟨Nat.le_of_ble_eq_true rfl, Nat.le_of_ble_eq_true rfl⟩ ⟨Nat.le_refl _, Nat.le_refl _⟩ dX4_weighed_40 (fun H locs hW hS => ?_)
        refine lv_aload_n (pc := 43) hx hb dX4_weighed_43 rfl (lv_at hl 0 rfl) ?_
        refine lv_iconst (pc := 44) (v := 0) hx hb dX4_weighed_44 (by decide) ?_
        refine lv_iconst (pc := 45) (v := 1) hx hb dX4_weighed_45 (by decide) ?_
        obtain ⟨w17, hc18, hd⟩ := wt_bd_o hd
        refine kX4_compare (pc := 46) hx hb hml hown hts hK hJ hW hS hc18 hl.1 (Nat.le_of_ble_eq_true rfl) ⟨Nat.le_of_ble_eq_true rfl, Nat.le_of_ble_eq_true rfl⟩ ⟨Nat.le_refl _, Nat.le_refl _⟩ dX4_weighed_46 (fun H locs hW hS => ?_)
        have hd := wt_rs_r (Option.some.inj hd) hq6
        exact mr_iret hx hb hr rfl hlocks (wt_p1 hd) (wt_p2 hd) hW hK hS dX4_weighed_49
      · have hd := wt_if hd c14
        refine lv_iconst (pc := 34) (v := 0) hx hb dX4_weighed_34 (by decide) ?_
        have hd := wt_rs_r (Option.some.inj hd) hq6
        exact mr_iret hx hb hr rfl hlocks (wt_p1 hd) (wt_p2 hd) hW hK hS dX4_weighed_35
    · have hd := wt_it hd c11
      exact hX7 () (Option.some.inj hd) _ _ _ hW hS hl
noncomputable def bX4_isNothing_1 (σ : MSt) (a0 : Int32) (v1 : Int32) : Option ((Int32) ⊕ ((Unit) ⊕ (Int32))) :=
  if (330 : Int32) ≤ v1 then (some (.inr (.inl ()))) else (wt_ck (vp_in a0 3) <| wt_ck (vp_in v1 330) <| if (σ.2.2 48 (a0.toNatClampNeg) v1.toNatClampNeg) = 0 then (wt_lt (v1 + (1 : Int32)) fun n15 => some (.inl n15)) else (some (.inr (.inr (0 : Int32)))))
noncomputable def dX4_isNothing (σ : MSt) (a0 : Int32) : Option (Int32) :=
  wt_bd (wt_whC (bX4_isNothing_1 σ a0) (0 : Int32)) fun w2 => wt_rs w2 (fun w2 => some (1 : Int32)) (fun z_ => some z_)
set_option maxHeartbeats 4000000 in
theorem wX4_isNothing (l : Launch) {X : MPar} {lo hi : Nat} (hJ : mJ X lo hi) {σ : MSt} {a0 : Int32} {out_ : Int32} (hd : dX4_isNothing σ a0 = some out_) : Met l yX4_isNothing (ws_ yX4_isNothing cX4_isNothing 3 (some .boolean)) ({ frames := 0, cells := 0, slots := 0, locals := 0 }) (mP X σ [.ref X.1.1, .int a0]) (mQi X out_ σ (mA lo hi)) 0 0 (mA lo hi) := by
  refine Met.ofW (cc := cX4_isNothing) (maxL := 3) (ret := (some .boolean)) (by decide) rfl ?_
  intro p_ e_ s_ m_ args_ below_ meth_ c_ s₁_ B hml hv
  obtain ⟨rfl, hW, hK⟩ := hv
  have hx := B.exec
  have hb := B.bytes
  have hr := B.returns
  have hts := atoms_spec (ws := (ws_ yX4_isNothing cX4_isNothing 3 (some .boolean))) B.pre
  have hts : ∀ w ∈ lw_all, w.before _ s_ = true := fun w h => hts w (List.mem_cons_of_mem _ h)
  have hown : s_.vm.findClass RX4 = some m_.cls := findClass_of_methodNamed B.named
  have hlocks := B.notSynchronized
  have hS : va_S (mA lo hi) s_.heap s_.heap [] := va_S.rf
  have hl := lv_entry ([.ref X.1.1, .int a0]) (n := 3) (Nat.le_of_ble_eq_true rfl)
  rw [lg_entry_eq]
  generalize (lg_sl ([.ref X.1.1, .int a0]) ++ List.replicate (3 - (lg_sl ([.ref X.1.1, .int a0])).length) Slot.unset).toArray = ls at hl ⊢
  have hl : lv_has ls 3 [(0, .ref X.1.1), (1, .int a0)] := hl
  unfold dX4_isNothing at hd
  refine lv_iconst (pc := 0) (v := 0) hx hb dX4_isNothing_0 (by decide) ?_
  refine lv_istore_n (pc := 1) (lv' := [(2, .int (0 : Int32)), (0, .ref X.1.1), (1, .int a0)]) hx hb dX4_isNothing_1 rfl hl (by decide) rfl (fun ls hl => ?_)
  obtain ⟨w2, hL3, hq4⟩ := wt_bd_o hd
  have hX5 : ∀ w2_ : Unit, (Sum.inl w2_ : (Unit) ⊕ _) = w2 → ∀ (H : Heap) (locs : List Loc) (ls : Array Slot), mW X σ H → va_S (mA lo hi) s_.heap H locs → lv_has ls 3 [] → W p_ l e_ (headSpec (ws_ yX4_isNothing cX4_isNothing 3 (some .boolean)) ({ frames := 0, cells := 0, slots := 0, locals := 0 })).room s_ m_ ([.ref X.1.1, .int a0] : List Value).toArray below_ meth_ c_ H locs 0 0 (MQ below_ (mQi X out_ σ (mA lo hi)) ([.ref X.1.1, .int a0] : List Value).toArray s_ 0 0 (mA lo hi)) (F0 m_ 28 ls []) := by
    intro w2_ hw_
    have hd := wt_rs_l hw_ hq4
    clear hL3 hq4
    intro H locs ls hW hS hl
    refine lv_iconst (pc := 28) (v := 1) hx hb dX4_isNothing_28 (by decide) ?_
    exact mr_iret hx hb hr rfl hlocks (Option.some.inj hd) rfl hW hK hS dX4_isNothing_29
  have hI10 : ∀ (k9 : Nat) (v1 : Int32), wt_wh (bX4_isNothing_1 σ a0) k9 v1 = some w2 → ∀ (H : Heap) (locs : List Loc) (ls : Array Slot), mW X σ H → va_S (mA lo hi) s_.heap H locs → lv_has ls 3 [(0, .ref X.1.1), (1, .int a0), (2, .int v1)] → W p_ l e_ (headSpec (ws_ yX4_isNothing cX4_isNothing 3 (some .boolean)) ({ frames := 0, cells := 0, slots := 0, locals := 0 })).room s_ m_ ([.ref X.1.1, .int a0] : List Value).toArray below_ meth_ c_ H locs 0 0 (MQ below_ (mQi X out_ σ (mA lo hi)) ([.ref X.1.1, .int a0] : List Value).toArray s_ 0 0 (mA lo hi)) (F0 m_ 2 ls []) := by
    intro k9
    induction k9 with
    | zero => intro v1 hd; exact absurd hd wt_wh_z
    | succ k9 ih7 =>
      intro v1 hd
      intro H locs ls hW hS hl
      obtain ⟨r8, hd, hk6⟩ := wt_wh_o hd
      unfold bX4_isNothing_1 at hd
      refine lv_iload_n (pc := 2) hx hb dX4_isNothing_2 rfl (lv_at hl 2 rfl) ?_
      refine lv_sipush (pc := 3) (v := 330) hx hb dX4_isNothing_3 (by decide) ?_
      refine lv_icmp_ge (pc := 6) (tgt := 28) hx hb dX4_isNothing_6 (by decide) (fun c11 => ?_) (fun c11 => ?_)
      · have hd := wt_it hd c11
        exact hX5 () (wt_exit hd hk6) _ _ _ hW hS (lv_sub hl [] rfl)
      · have hd := wt_if hd c11
        refine lv_aload_n (pc := 9) hx hb dX4_isNothing_9 rfl (lv_at hl 0 rfl) ?_
        refine mr_get (pc := 10) (k := 48) (v := .ref (X.1.2.1 48)) hx hb hts hown hK hW (by decide) rfl q1577 dX4_isNothing_10 ?_
        refine lv_iload_n (pc := 13) hx hb dX4_isNothing_13 rfl (lv_at hl 1 rfl) ?_
        obtain ⟨h12, hd⟩ := wt_ck_o hd
        refine mr_row (pc := 14) (k := 48) hx hb hK hW rfl h12 dX4_isNothing_14 ?_
        refine lv_iload_n (pc := 15) hx hb dX4_isNothing_15 rfl (lv_at hl 2 rfl) ?_
        obtain ⟨h13, hd⟩ := wt_ck_o hd
        refine mr_gld (pc := 16) (k := 48) (i := (a0.toNatClampNeg)) hx hb hK hW (vp_lt h12) rfl h13 dX4_isNothing_16 ?_
        refine lv_if_eq (pc := 17) (tgt := 22) hx hb dX4_isNothing_17 (by decide) (fun c14 => ?_) (fun c14 => ?_)
        · have hd := wt_it hd c14
          obtain ⟨n15, en15, hd⟩ := wt_lt_o hd
          refine lv_iinc (pc := 22) (k := 2) (v := n15) (lv' := [(2, .int n15), (0, .ref X.1.1), (1, .int a0)]) hx hb dX4_isNothing_22 hl rfl en15.symm (by decide) rfl (fun ls hl => ?_)
          refine lv_goto (pc := 25) (tgt := 2) hx hb dX4_isNothing_25 (by decide) ?_
          exact ih7 _ (wt_again hd hk6) _ _ _ hW hS (lv_sub hl [1, 2, 0] rfl)
        · have hd := wt_if hd c14
          refine lv_iconst (pc := 20) (v := 0) hx hb dX4_isNothing_20 (by decide) ?_
          have hd := wt_rs_r (wt_exit hd hk6) hq4
          exact mr_iret hx hb hr rfl hlocks (Option.some.inj hd) rfl hW hK hS dX4_isNothing_21
  obtain ⟨k9, hL3⟩ := wt_whC_o hL3
  exact hI10 k9 _ hL3 _ _ _ hW hS (lv_sub hl [1, 2, 0] rfl)
theorem kX4_isNothing {p : Program} {l : Launch} {e : Env} {R : Room} {s : State} {m : MethodId} {args : Array Value} {below : List Frame} {meth : Method} {c : Code} {H : Heap} {locs : List Loc} {cells slots : Nat} {Q : State → Prop} {cc : ByteArray} {pc : Nat} {ls : Array Slot} {rest : List Value} {H0 : Heap} {nL : Nat} {X : MPar} {lo hi : Nat} {σ : MSt} {a0 : Int32} {out_ : Int32} (hx : p.tables.exec = Jvm.exec) (hb : c.code = cc) (hml : c.maxLocals = nL) (hown : s.vm.findClass RX4 = some m.cls) (hts : ∀ w ∈ lw_all, w.before args s = true) (hK : mK X s) (hJ : mJ X lo hi) (hW : mW X σ H) (hS : va_S (mA lo hi) H0 H locs) (hd : dX4_isNothing σ a0 = some out_) (hsz : ls.size = nL) (hrm : (rest.map fun v => v.category).sum ≤ 8) (hR : 1 ≤ R.frames ∧ 22 ≤ R.locals) (hcs : cells ≤ R.cells ∧ slots ≤ R.slots) (hdg : decode cc pc = .ok (.invokevirtual 268, 3)) (kk : ∀ (H1 : Heap) (locs1 : List Loc), mW X σ H1 → va_S (mA lo hi) H0 H1 locs1 → W p l e R s m args below meth c H1 locs1 cells slots Q (F0 m (pc + 3) ls (.int out_ :: rest))) : W p l e R s m args below meth c H locs cells slots Q (F0 m pc ls (.int a0 :: .ref X.1.1 :: rest)) := by
  refine va_calli (va_runV (As := [.int a0]) (rest := rest) ⟨hx, hb, hml, hown, hts⟩ (wX4_isNothing l hJ hd) (cwV 1 hts (lw_V q1909 q1911 qs59 q88 q1912) rfl rfl rfl (by decide +kernel) hR) (mr_pre hK hW) rfl rfl hsz rfl (lv_room hrm) hdg hcs) hS (fun _ _ h => h) (fun _ h => h) (fun r u t H1 locs1 ht hvm hp hB hz hk hS1 => ?_)
  have hp : r = out_ := hp
  subst hp
  have hW1 : mW X σ t.heap := hB.1
  rw [ht] at hW1
  exact kk H1 locs1 hW1 hS1
noncomputable def bX4_worthNow_2  (v19 : Int32 × MSt) : Option ((Int32 × MSt) ⊕ (MSt)) :=
  if (330 : Int32) ≤ v19.1 then (some (.inr v19.2)) else (wt_ck (vp_in (2 : Int32) 3) <| wt_ck (vp_in (1 : Int32) 3) <| wt_ck (vp_in v19.1 330) <| wt_ck (vp_in v19.1 330) <| wt_lt (m_sG v19.2 48 ((2 : Int32).toNatClampNeg) v19.1.toNatClampNeg (v19.2.2.2 48 ((1 : Int32).toNatClampNeg) v19.1.toNatClampNeg)) fun σ34 => wt_lt (v19.1 + (1 : Int32)) fun n35 => some (.inl (n35, σ34)))
noncomputable def bX4_worthNow_1  (v7 : Int32 × Int32 × MSt) : Option ((Int32 × Int32 × MSt) ⊕ (Int32 × MSt)) :=
  if v7.2.1 ≤ v7.1 then (some (.inr (v7.1, v7.2.2))) else (wt_lt ((((v7.1 + v7.2.1) + (1 : Int32)) / (2 : Int32))) fun n18 => wt_bd (wt_whC (bX4_worthNow_2) ((0 : Int32), v7.2.2)) fun w20 => wt_bd (dX4_times w20 (2 : Int32) n18) fun w36 => wt_bd (dX4_compare w36 (0 : Int32) (2 : Int32)) fun w38 => if w38 < 0 then (wt_lt ((n18 - (1 : Int32))) fun n41 => some (.inl (v7.1, n41, w36))) else (some (.inl (n18, v7.2.1, w36))))
noncomputable def dX4_worthNow (σ : MSt)  : Option (Int32 × MSt) :=
  wt_bd (dX4_isNothing σ (0 : Int32)) fun w1 => if w1 = 0 then (wt_bd (dX4_isNothing σ (1 : Int32)) fun w4 => if w4 = 0 then (wt_bd (wt_whC (bX4_worthNow_1) ((0 : Int32), (1000000 : Int32), σ)) fun w8 => some (w8.1, w8.2)) else (some ((1000000 : Int32), σ))) else (some ((0 : Int32), σ))
set_option maxHeartbeats 4000000 in
theorem wX4_worthNow (l : Launch) {X : MPar} {lo hi : Nat} (hJ : mJ X lo hi) {σ : MSt}  {out_ : Int32 × MSt} (hd : dX4_worthNow σ = some out_) : Met l yX4_worthNow (ws_ yX4_worthNow cX4_worthNow 5 (some .int)) ({ frames := 1, cells := 0, slots := 0, locals := 27 }) (mP X σ [.ref X.1.1]) (mQi X out_.1 out_.2 (mA lo hi)) 0 0 (mA lo hi) := by
  refine Met.ofW (cc := cX4_worthNow) (maxL := 5) (ret := (some .int)) (by decide) rfl ?_
  intro p_ e_ s_ m_ args_ below_ meth_ c_ s₁_ B hml hv
  obtain ⟨rfl, hW, hK⟩ := hv
  have hx := B.exec
  have hb := B.bytes
  have hr := B.returns
  have hts := atoms_spec (ws := (ws_ yX4_worthNow cX4_worthNow 5 (some .int))) B.pre
  have hts : ∀ w ∈ lw_all, w.before _ s_ = true := fun w h => hts w (List.mem_cons_of_mem _ h)
  have hown : s_.vm.findClass RX4 = some m_.cls := findClass_of_methodNamed B.named
  have hlocks := B.notSynchronized
  have hS : va_S (mA lo hi) s_.heap s_.heap [] := va_S.rf
  have hl := lv_entry ([.ref X.1.1]) (n := 5) (Nat.le_of_ble_eq_true rfl)
  rw [lg_entry_eq]
  generalize (lg_sl ([.ref X.1.1]) ++ List.replicate (5 - (lg_sl ([.ref X.1.1])).length) Slot.unset).toArray = ls at hl ⊢
  have hl : lv_has ls 5 [(0, .ref X.1.1)] := hl
  unfold dX4_worthNow at hd
  refine lv_aload_n (pc := 0) hx hb dX4_worthNow_0 rfl (lv_at hl 0 rfl) ?_
  refine lv_iconst (pc := 1) (v := 0) hx hb dX4_worthNow_1 (by decide) ?_
  obtain ⟨w1, hc2, hd⟩ := wt_bd_o hd
  refine kX4_isNothing (pc := 2) hx hb hml hown hts hK hJ hW hS hc2 hl.1 (Nat.le_of_ble_eq_true rfl) ⟨Nat.le_of_ble_eq_true rfl, Nat.le_of_ble_eq_true rfl⟩ ⟨Nat.le_refl _, Nat.le_refl _⟩ dX4_worthNow_2 (fun H locs hW hS => ?_)
  refine lv_if_eq (pc := 5) (tgt := 10) hx hb dX4_worthNow_5 (by decide) (fun c3 => ?_) (fun c3 => ?_)
  · have hd := wt_it hd c3
    refine lv_aload_n (pc := 10) hx hb dX4_worthNow_10 rfl (lv_at hl 0 rfl) ?_
    refine lv_iconst (pc := 11) (v := 1) hx hb dX4_worthNow_11 (by decide) ?_
    obtain ⟨w4, hc5, hd⟩ := wt_bd_o hd
    refine kX4_isNothing (pc := 12) hx hb hml hown hts hK hJ hW hS hc5 hl.1 (Nat.le_of_ble_eq_true rfl) ⟨Nat.le_of_ble_eq_true rfl, Nat.le_of_ble_eq_true rfl⟩ ⟨Nat.le_refl _, Nat.le_refl _⟩ dX4_worthNow_12 (fun H locs hW hS => ?_)
    refine lv_if_eq (pc := 15) (tgt := 22) hx hb dX4_worthNow_15 (by decide) (fun c6 => ?_) (fun c6 => ?_)
    · have hd := wt_it hd c6
      refine lv_iconst (pc := 22) (v := 0) hx hb dX4_worthNow_22 (by decide) ?_
      refine lv_istore_n (pc := 23) (lv' := [(1, .int (0 : Int32)), (0, .ref X.1.1)]) hx hb dX4_worthNow_23 rfl hl (by decide) rfl (fun ls hl => ?_)
      refine lv_ldcw (pc := 24) hx hb hown (hts _ q1913) dX4_worthNow_24 ?_
      refine lv_istore_n (pc := 27) (lv' := [(2, .int (1000000 : Int32)), (1, .int (0 : Int32)), (0, .ref X.1.1)]) hx hb dX4_worthNow_27 rfl hl (by decide) rfl (fun ls hl => ?_)
      obtain ⟨w8, hL9, hq10⟩ := wt_bd_o hd
      have hX11 : ∀ w8_ : Int32 × MSt, w8_ = w8 → ∀ (H : Heap) (locs : List Loc) (ls : Array Slot), mW X w8_.2 H → va_S (mA lo hi) s_.heap H locs → lv_has ls 5 [(1, .int w8_.1)] → W p_ l e_ (headSpec (ws_ yX4_worthNow cX4_worthNow 5 (some .int)) ({ frames := 1, cells := 0, slots := 0, locals := 27 })).room s_ m_ ([.ref X.1.1] : List Value).toArray below_ meth_ c_ H locs 0 0 (MQ below_ (mQi X out_.1 out_.2 (mA lo hi)) ([.ref X.1.1] : List Value).toArray s_ 0 0 (mA lo hi)) (F0 m_ 103 ls []) := by
        intro w8_ hw_
        have hd := hq10
        subst hw_
        clear hL9 hq10
        intro H locs ls hW hS hl
        refine lv_iload_n (pc := 103) hx hb dX4_worthNow_103 rfl (lv_at hl 0 rfl) ?_
        exact mr_iret hx hb hr rfl hlocks (wt_p1 hd) (wt_p2 hd) hW hK hS dX4_worthNow_104
      have hI16 : ∀ (k15 : Nat) (v7 : Int32 × Int32 × MSt), wt_wh (bX4_worthNow_1) k15 v7 = some w8 → ∀ (H : Heap) (locs : List Loc) (ls : Array Slot), mW X v7.2.2 H → va_S (mA lo hi) s_.heap H locs → lv_has ls 5 [(0, .ref X.1.1), (1, .int v7.1), (2, .int v7.2.1)] → W p_ l e_ (headSpec (ws_ yX4_worthNow cX4_worthNow 5 (some .int)) ({ frames := 1, cells := 0, slots := 0, locals := 27 })).room s_ m_ ([.ref X.1.1] : List Value).toArray below_ meth_ c_ H locs 0 0 (MQ below_ (mQi X out_.1 out_.2 (mA lo hi)) ([.ref X.1.1] : List Value).toArray s_ 0 0 (mA lo hi)) (F0 m_ 28 ls []) := by
        intro k15
        induction k15 with
        | zero => intro v7 hd; exact absurd hd wt_wh_z
        | succ k15 ih13 =>
          intro v7 hd
          intro H locs ls hW hS hl
          obtain ⟨r14, hd, hk12⟩ := wt_wh_o hd
          unfold bX4_worthNow_1 at hd
          refine lv_iload_n (pc := 28) hx hb dX4_worthNow_28 rfl (lv_at hl 1 rfl) ?_
          refine lv_iload_n (pc := 29) hx hb dX4_worthNow_29 rfl (lv_at hl 2 rfl) ?_
          refine lv_icmp_ge (pc := 30) (tgt := 103) hx hb dX4_worthNow_30 (by decide) (fun c17 => ?_) (fun c17 => ?_)
          · have hd := wt_it hd c17
            exact hX11 (v7.1, v7.2.2) (wt_exit hd hk12) _ _ _ hW hS (lv_sub hl [1] rfl)
          · have hd := wt_if hd c17
            refine lv_iload_n (pc := 33) hx hb dX4_worthNow_33 rfl (lv_at hl 1 rfl) ?_
            refine lv_iload_n (pc := 34) hx hb dX4_worthNow_34 rfl (lv_at hl 2 rfl) ?_
            refine lv_iadd (pc := 35) hx hb dX4_worthNow_35 ?_
            refine lv_iconst (pc := 36) (v := 1) hx hb dX4_worthNow_36 (by decide) ?_
            refine lv_iadd (pc := 37) hx hb dX4_worthNow_37 ?_
            refine lv_iconst (pc := 38) (v := 2) hx hb dX4_worthNow_38 (by decide) ?_
            refine lv_idiv (pc := 39) hx hb dX4_worthNow_39 (by decide) ?_
            obtain ⟨n18, en18, hd⟩ := wt_lt_o hd
            refine lv_tope en18 ?_
            refine lv_istore_n (pc := 40) (lv' := [(3, .int n18), (0, .ref X.1.1), (1, .int v7.1), (2, .int v7.2.1)]) hx hb dX4_worthNow_40 rfl hl (by decide) rfl (fun ls hl => ?_)
            refine lv_iconst (pc := 41) (v := 0) hx hb dX4_worthNow_41 (by decide) ?_
            refine lv_istore (pc := 42) (lv' := [(4, .int (0 : Int32)), (3, .int n18), (0, .ref X.1.1), (1, .int v7.1), (2, .int v7.2.1)]) hx hb dX4_worthNow_42 hl (by decide) rfl (fun ls hl => ?_)
            obtain ⟨w20, hL21, hq22⟩ := wt_bd_o hd
            have hX23 : ∀ w20_ : MSt, w20_ = w20 → ∀ (H : Heap) (locs : List Loc) (ls : Array Slot), mW X w20_ H → va_S (mA lo hi) s_.heap H locs → lv_has ls 5 [(0, .ref X.1.1), (1, .int v7.1), (2, .int v7.2.1), (3, .int n18)] → W p_ l e_ (headSpec (ws_ yX4_worthNow cX4_worthNow 5 (some .int)) ({ frames := 1, cells := 0, slots := 0, locals := 27 })).room s_ m_ ([.ref X.1.1] : List Value).toArray below_ meth_ c_ H locs 0 0 (MQ below_ (mQi X out_.1 out_.2 (mA lo hi)) ([.ref X.1.1] : List Value).toArray s_ 0 0 (mA lo hi)) (F0 m_ 76 ls []) := by
              intro w20_ hw_
              have hd := hq22
              subst hw_
              clear hL21 hq22
              intro H locs ls hW hS hl
              refine lv_aload_n (pc := 76) hx hb dX4_worthNow_76 rfl (lv_at hl 0 rfl) ?_
              refine lv_iconst (pc := 77) (v := 2) hx hb dX4_worthNow_77 (by decide) ?_
              refine lv_iload_n (pc := 78) hx hb dX4_worthNow_78 rfl (lv_at hl 3 rfl) ?_
              obtain ⟨w36, hc37, hd⟩ := wt_bd_o hd
              refine kX4_times (pc := 79) hx hb hml hown hts hK hJ hW hS hc37 hl.1 (Nat.le_of_ble_eq_true rfl) ⟨Nat.le_of_ble_eq_true rfl, Nat.le_of_ble_eq_true rfl⟩ ⟨Nat.le_refl _, Nat.le_refl _⟩ dX4_worthNow_79 (fun H locs hW hS => ?_)
              refine lv_aload_n (pc := 82) hx hb dX4_worthNow_82 rfl (lv_at hl 0 rfl) ?_
              refine lv_iconst (pc := 83) (v := 0) hx hb dX4_worthNow_83 (by decide) ?_
              refine lv_iconst (pc := 84) (v := 2) hx hb dX4_worthNow_84 (by decide) ?_
              obtain ⟨w38, hc39, hd⟩ := wt_bd_o hd
              refine kX4_compare (pc := 85) hx hb hml hown hts hK hJ hW hS hc39 hl.1 (Nat.le_of_ble_eq_true rfl) ⟨Nat.le_of_ble_eq_true rfl, Nat.le_of_ble_eq_true rfl⟩ ⟨Nat.le_refl _, Nat.le_refl _⟩ dX4_worthNow_85 (fun H locs hW hS => ?_)
              refine lv_if_lt (pc := 88) (tgt := 96) hx hb dX4_worthNow_88 (by decide) (fun c40 => ?_) (fun c40 => ?_)
              · have hd := wt_it hd c40
                refine lv_iload_n (pc := 96) hx hb dX4_worthNow_96 rfl (lv_at hl 3 rfl) ?_
                refine lv_iconst (pc := 97) (v := 1) hx hb dX4_worthNow_97 (by decide) ?_
                refine lv_isub (pc := 98) hx hb dX4_worthNow_98 ?_
                obtain ⟨n41, en41, hd⟩ := wt_lt_o hd
                refine lv_tope en41 ?_
                refine lv_istore_n (pc := 99) (lv' := [(2, .int n41), (0, .ref X.1.1), (1, .int v7.1), (3, .int n18)]) hx hb dX4_worthNow_99 rfl hl (by decide) rfl (fun ls hl => ?_)
                refine lv_goto (pc := 100) (tgt := 28) hx hb dX4_worthNow_100 (by decide) ?_
                exact ih13 _ (wt_again hd hk12) _ _ _ hW hS (lv_sub hl [1, 2, 0] rfl)
              · have hd := wt_if hd c40
                refine lv_iload_n (pc := 91) hx hb dX4_worthNow_91 rfl (lv_at hl 3 rfl) ?_
                refine lv_istore_n (pc := 92) (lv' := [(1, .int n18), (0, .ref X.1.1), (2, .int v7.2.1), (3, .int n18)]) hx hb dX4_worthNow_92 rfl hl (by decide) rfl (fun ls hl => ?_)
                refine lv_goto (pc := 93) (tgt := 100) hx hb dX4_worthNow_93 (by decide) ?_
                refine lv_goto (pc := 100) (tgt := 28) hx hb dX4_worthNow_100 (by decide) ?_
                exact ih13 _ (wt_again hd hk12) _ _ _ hW hS (lv_sub hl [1, 0, 2] rfl)
            have hI28 : ∀ (k27 : Nat) (v19 : Int32 × MSt), wt_wh (bX4_worthNow_2) k27 v19 = some w20 → ∀ (H : Heap) (locs : List Loc) (ls : Array Slot), mW X v19.2 H → va_S (mA lo hi) s_.heap H locs → lv_has ls 5 [(0, .ref X.1.1), (1, .int v7.1), (2, .int v7.2.1), (3, .int n18), (4, .int v19.1)] → W p_ l e_ (headSpec (ws_ yX4_worthNow cX4_worthNow 5 (some .int)) ({ frames := 1, cells := 0, slots := 0, locals := 27 })).room s_ m_ ([.ref X.1.1] : List Value).toArray below_ meth_ c_ H locs 0 0 (MQ below_ (mQi X out_.1 out_.2 (mA lo hi)) ([.ref X.1.1] : List Value).toArray s_ 0 0 (mA lo hi)) (F0 m_ 44 ls []) := by
              intro k27
              induction k27 with
              | zero => intro v19 hd; exact absurd hd wt_wh_z
              | succ k27 ih25 =>
                intro v19 hd
                intro H locs ls hW hS hl
                obtain ⟨r26, hd, hk24⟩ := wt_wh_o hd
                unfold bX4_worthNow_2 at hd
                refine lv_iload (pc := 44) hx hb dX4_worthNow_44 (lv_at hl 4 rfl) ?_
                refine lv_sipush (pc := 46) (v := 330) hx hb dX4_worthNow_46 (by decide) ?_
                refine lv_icmp_ge (pc := 49) (tgt := 76) hx hb dX4_worthNow_49 (by decide) (fun c29 => ?_) (fun c29 => ?_)
                · have hd := wt_it hd c29
                  exact hX23 v19.2 (wt_exit hd hk24) _ _ _ hW hS (lv_sub hl [0, 1, 2, 3] rfl)
                · have hd := wt_if hd c29
                  refine lv_aload_n (pc := 52) hx hb dX4_worthNow_52 rfl (lv_at hl 0 rfl) ?_
                  refine mr_get (pc := 53) (k := 48) (v := .ref (X.1.2.1 48)) hx hb hts hown hK hW (by decide) rfl q1577 dX4_worthNow_53 ?_
                  refine lv_iconst (pc := 56) (v := 2) hx hb dX4_worthNow_56 (by decide) ?_
                  obtain ⟨h30, hd⟩ := wt_ck_o hd
                  refine mr_row (pc := 57) (k := 48) hx hb hK hW rfl h30 dX4_worthNow_57 ?_
                  refine lv_iload (pc := 58) hx hb dX4_worthNow_58 (lv_at hl 4 rfl) ?_
                  refine lv_aload_n (pc := 60) hx hb dX4_worthNow_60 rfl (lv_at hl 0 rfl) ?_
                  refine mr_get (pc := 61) (k := 48) (v := .ref (X.1.2.1 48)) hx hb hts hown hK hW (by decide) rfl q1577 dX4_worthNow_61 ?_
                  refine lv_iconst (pc := 64) (v := 1) hx hb dX4_worthNow_64 (by decide) ?_
                  obtain ⟨h31, hd⟩ := wt_ck_o hd
                  refine mr_row (pc := 65) (k := 48) hx hb hK hW rfl h31 dX4_worthNow_65 ?_
                  refine lv_iload (pc := 66) hx hb dX4_worthNow_66 (lv_at hl 4 rfl) ?_
                  obtain ⟨h32, hd⟩ := wt_ck_o hd
                  refine mr_gld (pc := 68) (k := 48) (i := ((1 : Int32).toNatClampNeg)) hx hb hK hW (vp_lt h31) rfl h32 dX4_worthNow_68 ?_
                  obtain ⟨h33, hd⟩ := wt_ck_o hd
                  obtain ⟨σ34, eσ34, hd⟩ := wt_lt_o hd
                  refine mr_gst (pc := 69) (k := 48) (i := ((2 : Int32).toNatClampNeg)) hx hb hK hW hJ hS (vp_lt h30) rfl h33 eσ34 dX4_worthNow_69 (fun H locs hW hS => ?_)
                  obtain ⟨n35, en35, hd⟩ := wt_lt_o hd
                  refine lv_iinc (pc := 70) (k := 4) (v := n35) (lv' := [(4, .int n35), (0, .ref X.1.1), (1, .int v7.1), (2, .int v7.2.1), (3, .int n18)]) hx hb dX4_worthNow_70 hl rfl en35.symm (by decide) rfl (fun ls hl => ?_)
                  refine lv_goto (pc := 73) (tgt := 44) hx hb dX4_worthNow_73 (by decide) ?_
                  exact ih25 _ (wt_again hd hk24) _ _ _ hW hS (lv_sub hl [1, 2, 3, 4, 0] rfl)
            obtain ⟨k27, hL21⟩ := wt_whC_o hL21
            exact hI28 k27 _ hL21 _ _ _ hW hS (lv_sub hl [2, 3, 4, 1, 0] rfl)
      obtain ⟨k15, hL9⟩ := wt_whC_o hL9
      exact hI16 k15 _ hL9 _ _ _ hW hS (lv_sub hl [2, 1, 0] rfl)
    · have hd := wt_if hd c6
      refine lv_ldcw (pc := 18) hx hb hown (hts _ q1913) dX4_worthNow_18 ?_
      exact mr_iret hx hb hr rfl hlocks (wt_p1 hd) (wt_p2 hd) hW hK hS dX4_worthNow_21
  · have hd := wt_if hd c3
    refine lv_iconst (pc := 8) (v := 0) hx hb dX4_worthNow_8 (by decide) ?_
    exact mr_iret hx hb hr rfl hlocks (wt_p1 hd) (wt_p2 hd) hW hK hS dX4_worthNow_9
theorem kX4_worthNow {p : Program} {l : Launch} {e : Env} {R : Room} {s : State} {m : MethodId} {args : Array Value} {below : List Frame} {meth : Method} {c : Code} {H : Heap} {locs : List Loc} {cells slots : Nat} {Q : State → Prop} {cc : ByteArray} {pc : Nat} {ls : Array Slot} {rest : List Value} {H0 : Heap} {nL : Nat} {X : MPar} {lo hi : Nat} {σ : MSt}  {out_ : Int32 × MSt} (hx : p.tables.exec = Jvm.exec) (hb : c.code = cc) (hml : c.maxLocals = nL) (hown : s.vm.findClass RX4 = some m.cls) (hts : ∀ w ∈ lw_all, w.before args s = true) (hK : mK X s) (hJ : mJ X lo hi) (hW : mW X σ H) (hS : va_S (mA lo hi) H0 H locs) (hd : dX4_worthNow σ = some out_) (hsz : ls.size = nL) (hrm : (rest.map fun v => v.category).sum ≤ 8) (hR : 2 ≤ R.frames ∧ 51 ≤ R.locals) (hcs : cells ≤ R.cells ∧ slots ≤ R.slots) (hdg : decode cc pc = .ok (.invokevirtual 287, 3)) (kk : ∀ (H1 : Heap) (locs1 : List Loc), mW X out_.2 H1 → va_S (mA lo hi) H0 H1 locs1 → W p l e R s m args below meth c H1 locs1 cells slots Q (F0 m (pc + 3) ls (.int out_.1 :: rest))) : W p l e R s m args below meth c H locs cells slots Q (F0 m pc ls (.ref X.1.1 :: rest)) := by
  refine va_calli (va_runV (As := []) (rest := rest) ⟨hx, hb, hml, hown, hts⟩ (wX4_worthNow l hJ hd) (cwV 0 hts (lw_V q1905 q1907 qs58 q88 q1908) rfl rfl rfl (by decide +kernel) hR) (mr_pre hK hW) rfl rfl hsz rfl (lv_room hrm) hdg hcs) hS (fun _ _ h => h) (fun _ h => h) (fun r u t H1 locs1 ht hvm hp hB hz hk hS1 => ?_)
  have hp : r = out_.1 := hp
  subst hp
  have hW1 : mW X out_.2 t.heap := hB.1
  rw [ht] at hW1
  exact kk H1 locs1 hW1 hS1
noncomputable def dX4_worthOf (σ : MSt) (a0 : Int32) (a1 : Int32) (a2 : Int32) : Option (Int32 × MSt) :=
  wt_bd (dX4_two σ a0 a1 a2) fun w1 => wt_bd (dX4_worthNow w1) fun w3 => some (w3.1, w3.2)
set_option maxHeartbeats 4000000 in
theorem wX4_worthOf (l : Launch) {X : MPar} {lo hi : Nat} (hJ : mJ X lo hi) {σ : MSt} {a0 : Int32} {a1 : Int32} {a2 : Int32} {out_ : Int32 × MSt} (hd : dX4_worthOf σ a0 a1 a2 = some out_) : Met l yX4_worthOf (ws_ yX4_worthOf cX4_worthOf 4 (some .int)) ({ frames := 6, cells := 0, slots := 0, locals := 146 }) (mP X σ [.ref X.1.1, .int a0, .int a1, .int a2]) (mQi X out_.1 out_.2 (mA lo hi)) 0 0 (mA lo hi) := by
  refine Met.ofW (cc := cX4_worthOf) (maxL := 4) (ret := (some .int)) (by decide) rfl ?_
  intro p_ e_ s_ m_ args_ below_ meth_ c_ s₁_ B hml hv
  obtain ⟨rfl, hW, hK⟩ := hv
  have hx := B.exec
  have hb := B.bytes
  have hr := B.returns
  have hts := atoms_spec (ws := (ws_ yX4_worthOf cX4_worthOf 4 (some .int))) B.pre
  have hts : ∀ w ∈ lw_all, w.before _ s_ = true := fun w h => hts w (List.mem_cons_of_mem _ h)
  have hown : s_.vm.findClass RX4 = some m_.cls := findClass_of_methodNamed B.named
  have hlocks := B.notSynchronized
  have hS : va_S (mA lo hi) s_.heap s_.heap [] := va_S.rf
  have hl := lv_entry ([.ref X.1.1, .int a0, .int a1, .int a2]) (n := 4) (Nat.le_of_ble_eq_true rfl)
  rw [lg_entry_eq]
  generalize (lg_sl ([.ref X.1.1, .int a0, .int a1, .int a2]) ++ List.replicate (4 - (lg_sl ([.ref X.1.1, .int a0, .int a1, .int a2])).length) Slot.unset).toArray = ls at hl ⊢
  have hl : lv_has ls 4 [(0, .ref X.1.1), (1, .int a0), (2, .int a1), (3, .int a2)] := hl
  unfold dX4_worthOf at hd
  refine lv_aload_n (pc := 0) hx hb dX4_worthOf_0 rfl (lv_at hl 0 rfl) ?_
  refine lv_iload_n (pc := 1) hx hb dX4_worthOf_1 rfl (lv_at hl 1 rfl) ?_
  refine lv_iload_n (pc := 2) hx hb dX4_worthOf_2 rfl (lv_at hl 2 rfl) ?_
  refine lv_iload_n (pc := 3) hx hb dX4_worthOf_3 rfl (lv_at hl 3 rfl) ?_
  obtain ⟨w1, hc2, hd⟩ := wt_bd_o hd
  refine kX4_two (pc := 4) hx hb hml hown hts hK hJ hW hS hc2 hl.1 (Nat.le_of_ble_eq_true rfl) ⟨Nat.le_of_ble_eq_true rfl, Nat.le_of_ble_eq_true rfl⟩ ⟨Nat.le_refl _, Nat.le_refl _⟩ dX4_worthOf_4 (fun H locs hW hS => ?_)
  refine lv_aload_n (pc := 7) hx hb dX4_worthOf_7 rfl (lv_at hl 0 rfl) ?_
  obtain ⟨w3, hc4, hd⟩ := wt_bd_o hd
  refine kX4_worthNow (pc := 8) hx hb hml hown hts hK hJ hW hS hc4 hl.1 (Nat.le_of_ble_eq_true rfl) ⟨Nat.le_of_ble_eq_true rfl, Nat.le_of_ble_eq_true rfl⟩ ⟨Nat.le_refl _, Nat.le_refl _⟩ dX4_worthOf_8 (fun H locs hW hS => ?_)
  exact mr_iret hx hb hr rfl hlocks (wt_p1 hd) (wt_p2 hd) hW hK hS dX4_worthOf_11
theorem kX4_worthOf {p : Program} {l : Launch} {e : Env} {R : Room} {s : State} {m : MethodId} {args : Array Value} {below : List Frame} {meth : Method} {c : Code} {H : Heap} {locs : List Loc} {cells slots : Nat} {Q : State → Prop} {cc : ByteArray} {pc : Nat} {ls : Array Slot} {rest : List Value} {H0 : Heap} {nL : Nat} {X : MPar} {lo hi : Nat} {σ : MSt} {a0 : Int32} {a1 : Int32} {a2 : Int32} {out_ : Int32 × MSt} (hx : p.tables.exec = Jvm.exec) (hb : c.code = cc) (hml : c.maxLocals = nL) (hown : s.vm.findClass RX4 = some m.cls) (hts : ∀ w ∈ lw_all, w.before args s = true) (hK : mK X s) (hJ : mJ X lo hi) (hW : mW X σ H) (hS : va_S (mA lo hi) H0 H locs) (hd : dX4_worthOf σ a0 a1 a2 = some out_) (hsz : ls.size = nL) (hrm : (rest.map fun v => v.category).sum ≤ 8) (hR : 7 ≤ R.frames ∧ 169 ≤ R.locals) (hcs : cells ≤ R.cells ∧ slots ≤ R.slots) (hdg : decode cc pc = .ok (.invokevirtual 290, 3)) (kk : ∀ (H1 : Heap) (locs1 : List Loc), mW X out_.2 H1 → va_S (mA lo hi) H0 H1 locs1 → W p l e R s m args below meth c H1 locs1 cells slots Q (F0 m (pc + 3) ls (.int out_.1 :: rest))) : W p l e R s m args below meth c H locs cells slots Q (F0 m pc ls (.int a2 :: .int a1 :: .int a0 :: .ref X.1.1 :: rest)) := by
  refine va_calli (va_runV (As := [.int a0, .int a1, .int a2]) (rest := rest) ⟨hx, hb, hml, hown, hts⟩ (wX4_worthOf l hJ hd) (cwV 3 hts (lw_V q1901 q1903 qs57 q88 q1904) rfl rfl rfl (by decide +kernel) hR) (mr_pre hK hW) rfl rfl hsz rfl (lv_room hrm) hdg hcs) hS (fun _ _ h => h) (fun _ h => h) (fun r u t H1 locs1 ht hvm hp hB hz hk hS1 => ?_)
  have hp : r = out_.1 := hp
  subst hp
  have hW1 : mW X out_.2 t.heap := hB.1
  rw [ht] at hW1
  exact kk H1 locs1 hW1 hS1
noncomputable def dX4_worth (σ : MSt) (a0 : Int32) (a1 : Int32) : Option (Int32 × MSt) :=
  wt_lt (m_sF σ 0 (0 : Int32)) fun σ1 => wt_bd (dX4_isStory σ1 a0) fun w2 => wt_bd (if w2 = 0 then (some (.inl ())) else (wt_bd (dX4_isStory σ1 a1) fun w9 => if w9 = 0 then (some (.inl ())) else (wt_bd (dX4_bad σ1 (0 : Int32) (1 : Int32)) fun w12 => if w12.1 = 0 then (wt_bd (dX4_worthOf w12.2 a0 a1 (-1 : Int32)) fun w15 => some (.inr (w15.1, w15.2))) else (some (.inr ((0 : Int32), w12.2)))))) fun w4 => wt_rs w4 (fun w4 => wt_bd (dX4_bad σ1 (1 : Int32) (1 : Int32)) fun w17 => if w17.1 = 0 then (wt_bd (dX4_worthOf w17.2 a0 a1 (-1 : Int32)) fun w20 => some (w20.1, w20.2)) else (some ((0 : Int32), w17.2))) (fun z_ => some z_)
set_option maxHeartbeats 4000000 in
theorem wX4_worth (l : Launch) {X : MPar} {lo hi : Nat} (hJ : mJ X lo hi) {σ : MSt} {a0 : Int32} {a1 : Int32} {out_ : Int32 × MSt} (hd : dX4_worth σ a0 a1 = some out_) : Met l yX4_worth (ws_ yX4_worth cX4_worth 3 (some .int)) ({ frames := 7, cells := 0, slots := 0, locals := 169 }) (mP X σ [.ref X.1.1, .int a0, .int a1]) (mQi X out_.1 out_.2 (mA lo hi)) 0 0 (mA lo hi) := by
  refine Met.ofW (cc := cX4_worth) (maxL := 3) (ret := (some .int)) (by decide) rfl ?_
  intro p_ e_ s_ m_ args_ below_ meth_ c_ s₁_ B hml hv
  obtain ⟨rfl, hW, hK⟩ := hv
  have hx := B.exec
  have hb := B.bytes
  have hr := B.returns
  have hts := atoms_spec (ws := (ws_ yX4_worth cX4_worth 3 (some .int))) B.pre
  have hts : ∀ w ∈ lw_all, w.before _ s_ = true := fun w h => hts w (List.mem_cons_of_mem _ h)
  have hown : s_.vm.findClass RX4 = some m_.cls := findClass_of_methodNamed B.named
  have hlocks := B.notSynchronized
  have hS : va_S (mA lo hi) s_.heap s_.heap [] := va_S.rf
  have hl := lv_entry ([.ref X.1.1, .int a0, .int a1]) (n := 3) (Nat.le_of_ble_eq_true rfl)
  rw [lg_entry_eq]
  generalize (lg_sl ([.ref X.1.1, .int a0, .int a1]) ++ List.replicate (3 - (lg_sl ([.ref X.1.1, .int a0, .int a1])).length) Slot.unset).toArray = ls at hl ⊢
  have hl : lv_has ls 3 [(0, .ref X.1.1), (1, .int a0), (2, .int a1)] := hl
  unfold dX4_worth at hd
  refine lv_aload_n (pc := 0) hx hb dX4_worth_0 rfl (lv_at hl 0 rfl) ?_
  refine lv_iconst (pc := 1) (v := 0) hx hb dX4_worth_1 (by decide) ?_
  obtain ⟨σ1, eσ1, hd⟩ := wt_lt_o hd
  refine mr_put (pc := 2) (k := 0) hx hb hts hown hK hW hJ hS (by decide) rfl eσ1 q1529 dX4_worth_2 (fun H locs hW hS => ?_)
  refine lv_aload_n (pc := 5) hx hb dX4_worth_5 rfl (lv_at hl 0 rfl) ?_
  refine lv_aload_n (pc := 6) hx hb dX4_worth_6 rfl (lv_at hl 0 rfl) ?_
  refine lv_iload_n (pc := 7) hx hb dX4_worth_7 rfl (lv_at hl 1 rfl) ?_
  obtain ⟨w2, hc3, hd⟩ := wt_bd_o hd
  refine kX4_isStory (pc := 8) hx hb hml hown hts hK hJ hW hS hc3 hl.1 (Nat.le_of_ble_eq_true rfl) ⟨Nat.le_of_ble_eq_true rfl, Nat.le_of_ble_eq_true rfl⟩ ⟨Nat.le_refl _, Nat.le_refl _⟩ dX4_worth_8 (fun H locs hW hS => ?_)
  obtain ⟨w4, hj5, hq6⟩ := wt_bd_o hd
  have hX7 : ∀ w4_ : Unit, (Sum.inl w4_ : Unit ⊕ _) = w4 → ∀ (H : Heap) (locs : List Loc) (ls : Array Slot), mW X σ1 H → va_S (mA lo hi) s_.heap H locs → lv_has ls 3 [(0, .ref X.1.1), (1, .int a0), (2, .int a1)] → W p_ l e_ (headSpec (ws_ yX4_worth cX4_worth 3 (some .int)) ({ frames := 7, cells := 0, slots := 0, locals := 169 })).room s_ m_ ([.ref X.1.1, .int a0, .int a1] : List Value).toArray below_ meth_ c_ H locs 0 0 (MQ below_ (mQi X out_.1 out_.2 (mA lo hi)) ([.ref X.1.1, .int a0, .int a1] : List Value).toArray s_ 0 0 (mA lo hi)) (F0 m_ 22 ls [.ref X.1.1]) := by
    intro w4_ hw_
    have hd := wt_rs_l hw_ hq6
    clear hj5 hq6
    intro H locs ls hW hS hl
    refine lv_iconst (pc := 22) (v := 1) hx hb dX4_worth_22 (by decide) ?_
    refine lv_goto (pc := 23) (tgt := 27) hx hb dX4_worth_23 (by decide) ?_
    refine lv_iconst (pc := 27) (v := 1) hx hb dX4_worth_27 (by decide) ?_
    obtain ⟨w17, hc18, hd⟩ := wt_bd_o hd
    refine kX4_bad (pc := 28) hx hb hml hown hts hK hJ hW hS hc18 hl.1 (Nat.le_of_ble_eq_true rfl) ⟨Nat.le_of_ble_eq_true rfl, Nat.le_of_ble_eq_true rfl⟩ ⟨Nat.le_refl _, Nat.le_refl _⟩ dX4_worth_28 (fun H locs hW hS => ?_)
    refine lv_if_eq (pc := 31) (tgt := 36) hx hb dX4_worth_31 (by decide) (fun c19 => ?_) (fun c19 => ?_)
    · have hd := wt_it hd c19
      refine lv_aload_n (pc := 36) hx hb dX4_worth_36 rfl (lv_at hl 0 rfl) ?_
      refine lv_iload_n (pc := 37) hx hb dX4_worth_37 rfl (lv_at hl 1 rfl) ?_
      refine lv_iload_n (pc := 38) hx hb dX4_worth_38 rfl (lv_at hl 2 rfl) ?_
      refine lv_iconst (pc := 39) (v := -1) hx hb dX4_worth_39 (by decide) ?_
      obtain ⟨w20, hc21, hd⟩ := wt_bd_o hd
      refine kX4_worthOf (pc := 40) hx hb hml hown hts hK hJ hW hS hc21 hl.1 (Nat.le_of_ble_eq_true rfl) ⟨Nat.le_of_ble_eq_true rfl, Nat.le_of_ble_eq_true rfl⟩ ⟨Nat.le_refl _, Nat.le_refl _⟩ dX4_worth_40 (fun H locs hW hS => ?_)
      exact mr_iret hx hb hr rfl hlocks (wt_p1 hd) (wt_p2 hd) hW hK hS dX4_worth_43
    · have hd := wt_if hd c19
      refine lv_iconst (pc := 34) (v := 0) hx hb dX4_worth_34 (by decide) ?_
      exact mr_iret hx hb hr rfl hlocks (wt_p1 hd) (wt_p2 hd) hW hK hS dX4_worth_35
  have hd := hj5
  refine lv_if_eq (pc := 11) (tgt := 22) hx hb dX4_worth_11 (by decide) (fun c8 => ?_) (fun c8 => ?_)
  · have hd := wt_it hd c8
    exact hX7 () (Option.some.inj hd) _ _ _ hW hS hl
  · have hd := wt_if hd c8
    refine lv_aload_n (pc := 14) hx hb dX4_worth_14 rfl (lv_at hl 0 rfl) ?_
    refine lv_iload_n (pc := 15) hx hb dX4_worth_15 rfl (lv_at hl 2 rfl) ?_
    obtain ⟨w9, hc10, hd⟩ := wt_bd_o hd
    refine kX4_isStory (pc := 16) hx hb hml hown hts hK hJ hW hS hc10 hl.1 (Nat.le_of_ble_eq_true rfl) ⟨Nat.le_of_ble_eq_true rfl, Nat.le_of_ble_eq_true rfl⟩ ⟨Nat.le_refl _, Nat.le_refl _⟩ dX4_worth_16 (fun H locs hW hS => ?_)
    refine lv_if_ne (pc := 19) (tgt := 26) hx hb dX4_worth_19 (by decide) (fun c11 => ?_) (fun c11 => ?_)
    · have hd := wt_if hd c11
      refine lv_iconst (pc := 26) (v := 0) hx hb dX4_worth_26 (by decide) ?_
      refine lv_iconst (pc := 27) (v := 1) hx hb dX4_worth_27 (by decide) ?_
      obtain ⟨w12, hc13, hd⟩ := wt_bd_o hd
      refine kX4_bad (pc := 28) hx hb hml hown hts hK hJ hW hS hc13 hl.1 (Nat.le_of_ble_eq_true rfl) ⟨Nat.le_of_ble_eq_true rfl, Nat.le_of_ble_eq_true rfl⟩ ⟨Nat.le_refl _, Nat.le_refl _⟩ dX4_worth_28 (fun H locs hW hS => ?_)
      refine lv_if_eq (pc := 31) (tgt := 36) hx hb dX4_worth_31 (by decide) (fun c14 => ?_) (fun c14 => ?_)
      · have hd := wt_it hd c14
        refine lv_aload_n (pc := 36) hx hb dX4_worth_36 rfl (lv_at hl 0 rfl) ?_
        refine lv_iload_n (pc := 37) hx hb dX4_worth_37 rfl (lv_at hl 1 rfl) ?_
        refine lv_iload_n (pc := 38) hx hb dX4_worth_38 rfl (lv_at hl 2 rfl) ?_
        refine lv_iconst (pc := 39) (v := -1) hx hb dX4_worth_39 (by decide) ?_
        obtain ⟨w15, hc16, hd⟩ := wt_bd_o hd
        refine kX4_worthOf (pc := 40) hx hb hml hown hts hK hJ hW hS hc16 hl.1 (Nat.le_of_ble_eq_true rfl) ⟨Nat.le_of_ble_eq_true rfl, Nat.le_of_ble_eq_true rfl⟩ ⟨Nat.le_refl _, Nat.le_refl _⟩ dX4_worth_40 (fun H locs hW hS => ?_)
        have hd := wt_rs_r (Option.some.inj hd) hq6
        exact mr_iret hx hb hr rfl hlocks (wt_p1 hd) (wt_p2 hd) hW hK hS dX4_worth_43
      · have hd := wt_if hd c14
        refine lv_iconst (pc := 34) (v := 0) hx hb dX4_worth_34 (by decide) ?_
        have hd := wt_rs_r (Option.some.inj hd) hq6
        exact mr_iret hx hb hr rfl hlocks (wt_p1 hd) (wt_p2 hd) hW hK hS dX4_worth_35
    · have hd := wt_it hd c11
      exact hX7 () (Option.some.inj hd) _ _ _ hW hS hl
noncomputable def dX4_part (σ : MSt) (a0 : Int32) (a1 : Int32) (a2 : Int32) : Option (Int32 × MSt) :=
  wt_lt (m_sF σ 0 (0 : Int32)) fun σ1 => wt_bd (dX4_isStory σ1 a0) fun w2 => wt_bd (if w2 = 0 then (some (.inl ())) else (wt_bd (dX4_isStory σ1 a1) fun w9 => if w9 = 0 then (some (.inl ())) else (wt_bd (dX4_bad σ1 (0 : Int32) (1 : Int32)) fun w12 => if w12.1 = 0 then (wt_bd (dX4_isFind w12.2 a2) fun w15 => wt_bd (if w15 = 0 then (some (1 : Int32)) else (some (0 : Int32))) fun w17 => wt_bd (dX4_bad w12.2 w17 (2 : Int32)) fun w22 => if w22.1 = 0 then (wt_bd (dX4_worthOf w22.2 a0 a1 a2) fun w25 => some (.inr (w25.1, w25.2))) else (some (.inr ((0 : Int32), w22.2)))) else (some (.inr ((0 : Int32), w12.2)))))) fun w4 => wt_rs w4 (fun w4 => wt_bd (dX4_bad σ1 (1 : Int32) (1 : Int32)) fun w27 => if w27.1 = 0 then (wt_bd (dX4_isFind w27.2 a2) fun w30 => wt_bd (if w30 = 0 then (some (1 : Int32)) else (some (0 : Int32))) fun w32 => wt_bd (dX4_bad w27.2 w32 (2 : Int32)) fun w37 => if w37.1 = 0 then (wt_bd (dX4_worthOf w37.2 a0 a1 a2) fun w40 => some (w40.1, w40.2)) else (some ((0 : Int32), w37.2))) else (some ((0 : Int32), w27.2))) (fun z_ => some z_)
set_option maxHeartbeats 4000000 in
theorem wX4_part (l : Launch) {X : MPar} {lo hi : Nat} (hJ : mJ X lo hi) {σ : MSt} {a0 : Int32} {a1 : Int32} {a2 : Int32} {out_ : Int32 × MSt} (hd : dX4_part σ a0 a1 a2 = some out_) : Met l yX4_part (ws_ yX4_part cX4_part 4 (some .int)) ({ frames := 7, cells := 0, slots := 0, locals := 169 }) (mP X σ [.ref X.1.1, .int a0, .int a1, .int a2]) (mQi X out_.1 out_.2 (mA lo hi)) 0 0 (mA lo hi) := by
  refine Met.ofW (cc := cX4_part) (maxL := 4) (ret := (some .int)) (by decide) rfl ?_
  intro p_ e_ s_ m_ args_ below_ meth_ c_ s₁_ B hml hv
  obtain ⟨rfl, hW, hK⟩ := hv
  have hx := B.exec
  have hb := B.bytes
  have hr := B.returns
  have hts := atoms_spec (ws := (ws_ yX4_part cX4_part 4 (some .int))) B.pre
  have hts : ∀ w ∈ lw_all, w.before _ s_ = true := fun w h => hts w (List.mem_cons_of_mem _ h)
  have hown : s_.vm.findClass RX4 = some m_.cls := findClass_of_methodNamed B.named
  have hlocks := B.notSynchronized
  have hS : va_S (mA lo hi) s_.heap s_.heap [] := va_S.rf
  have hl := lv_entry ([.ref X.1.1, .int a0, .int a1, .int a2]) (n := 4) (Nat.le_of_ble_eq_true rfl)
  rw [lg_entry_eq]
  generalize (lg_sl ([.ref X.1.1, .int a0, .int a1, .int a2]) ++ List.replicate (4 - (lg_sl ([.ref X.1.1, .int a0, .int a1, .int a2])).length) Slot.unset).toArray = ls at hl ⊢
  have hl : lv_has ls 4 [(0, .ref X.1.1), (1, .int a0), (2, .int a1), (3, .int a2)] := hl
  unfold dX4_part at hd
  refine lv_aload_n (pc := 0) hx hb dX4_part_0 rfl (lv_at hl 0 rfl) ?_
  refine lv_iconst (pc := 1) (v := 0) hx hb dX4_part_1 (by decide) ?_
  obtain ⟨σ1, eσ1, hd⟩ := wt_lt_o hd
  refine mr_put (pc := 2) (k := 0) hx hb hts hown hK hW hJ hS (by decide) rfl eσ1 q1529 dX4_part_2 (fun H locs hW hS => ?_)
  refine lv_aload_n (pc := 5) hx hb dX4_part_5 rfl (lv_at hl 0 rfl) ?_
  refine lv_aload_n (pc := 6) hx hb dX4_part_6 rfl (lv_at hl 0 rfl) ?_
  refine lv_iload_n (pc := 7) hx hb dX4_part_7 rfl (lv_at hl 1 rfl) ?_
  obtain ⟨w2, hc3, hd⟩ := wt_bd_o hd
  refine kX4_isStory (pc := 8) hx hb hml hown hts hK hJ hW hS hc3 hl.1 (Nat.le_of_ble_eq_true rfl) ⟨Nat.le_of_ble_eq_true rfl, Nat.le_of_ble_eq_true rfl⟩ ⟨Nat.le_refl _, Nat.le_refl _⟩ dX4_part_8 (fun H locs hW hS => ?_)
  obtain ⟨w4, hj5, hq6⟩ := wt_bd_o hd
  have hX7 : ∀ w4_ : Unit, (Sum.inl w4_ : Unit ⊕ _) = w4 → ∀ (H : Heap) (locs : List Loc) (ls : Array Slot), mW X σ1 H → va_S (mA lo hi) s_.heap H locs → lv_has ls 4 [(0, .ref X.1.1), (1, .int a0), (2, .int a1), (3, .int a2)] → W p_ l e_ (headSpec (ws_ yX4_part cX4_part 4 (some .int)) ({ frames := 7, cells := 0, slots := 0, locals := 169 })).room s_ m_ ([.ref X.1.1, .int a0, .int a1, .int a2] : List Value).toArray below_ meth_ c_ H locs 0 0 (MQ below_ (mQi X out_.1 out_.2 (mA lo hi)) ([.ref X.1.1, .int a0, .int a1, .int a2] : List Value).toArray s_ 0 0 (mA lo hi)) (F0 m_ 22 ls [.ref X.1.1]) := by
    intro w4_ hw_
    have hd := wt_rs_l hw_ hq6
    clear hj5 hq6
    intro H locs ls hW hS hl
    refine lv_iconst (pc := 22) (v := 1) hx hb dX4_part_22 (by decide) ?_
    refine lv_goto (pc := 23) (tgt := 27) hx hb dX4_part_23 (by decide) ?_
    refine lv_iconst (pc := 27) (v := 1) hx hb dX4_part_27 (by decide) ?_
    obtain ⟨w27, hc28, hd⟩ := wt_bd_o hd
    refine kX4_bad (pc := 28) hx hb hml hown hts hK hJ hW hS hc28 hl.1 (Nat.le_of_ble_eq_true rfl) ⟨Nat.le_of_ble_eq_true rfl, Nat.le_of_ble_eq_true rfl⟩ ⟨Nat.le_refl _, Nat.le_refl _⟩ dX4_part_28 (fun H locs hW hS => ?_)
    refine lv_if_ne (pc := 31) (tgt := 55) hx hb dX4_part_31 (by decide) (fun c29 => ?_) (fun c29 => ?_)
    · have hd := wt_if hd c29
      refine lv_iconst (pc := 55) (v := 0) hx hb dX4_part_55 (by decide) ?_
      exact mr_iret hx hb hr rfl hlocks (wt_p1 hd) (wt_p2 hd) hW hK hS dX4_part_56
    · have hd := wt_it hd c29
      refine lv_aload_n (pc := 34) hx hb dX4_part_34 rfl (lv_at hl 0 rfl) ?_
      refine lv_aload_n (pc := 35) hx hb dX4_part_35 rfl (lv_at hl 0 rfl) ?_
      refine lv_iload_n (pc := 36) hx hb dX4_part_36 rfl (lv_at hl 3 rfl) ?_
      obtain ⟨w30, hc31, hd⟩ := wt_bd_o hd
      refine kX4_isFind (pc := 37) hx hb hml hown hts hK hJ hW hS hc31 hl.1 (Nat.le_of_ble_eq_true rfl) ⟨Nat.le_of_ble_eq_true rfl, Nat.le_of_ble_eq_true rfl⟩ ⟨Nat.le_refl _, Nat.le_refl _⟩ dX4_part_37 (fun H locs hW hS => ?_)
      obtain ⟨w32, hj33, hq34⟩ := wt_bd_o hd
      have hX35 : ∀ w32_ : Int32, w32_ = w32 → ∀ (H : Heap) (locs : List Loc) (ls : Array Slot), mW X w27.2 H → va_S (mA lo hi) s_.heap H locs → lv_has ls 4 [(0, .ref X.1.1), (1, .int a0), (2, .int a1), (3, .int a2)] → W p_ l e_ (headSpec (ws_ yX4_part cX4_part 4 (some .int)) ({ frames := 7, cells := 0, slots := 0, locals := 169 })).room s_ m_ ([.ref X.1.1, .int a0, .int a1, .int a2] : List Value).toArray below_ meth_ c_ H locs 0 0 (MQ below_ (mQi X out_.1 out_.2 (mA lo hi)) ([.ref X.1.1, .int a0, .int a1, .int a2] : List Value).toArray s_ 0 0 (mA lo hi)) (F0 m_ 48 ls [.int w32_, .ref X.1.1]) := by
        intro w32_ hw_
        have hd := hq34
        subst hw_
        clear hj33 hq34
        intro H locs ls hW hS hl
        refine lv_iconst (pc := 48) (v := 2) hx hb dX4_part_48 (by decide) ?_
        obtain ⟨w37, hc38, hd⟩ := wt_bd_o hd
        refine kX4_bad (pc := 49) hx hb hml hown hts hK hJ hW hS hc38 hl.1 (Nat.le_of_ble_eq_true rfl) ⟨Nat.le_of_ble_eq_true rfl, Nat.le_of_ble_eq_true rfl⟩ ⟨Nat.le_refl _, Nat.le_refl _⟩ dX4_part_49 (fun H locs hW hS => ?_)
        refine lv_if_eq (pc := 52) (tgt := 57) hx hb dX4_part_52 (by decide) (fun c39 => ?_) (fun c39 => ?_)
        · have hd := wt_it hd c39
          refine lv_aload_n (pc := 57) hx hb dX4_part_57 rfl (lv_at hl 0 rfl) ?_
          refine lv_iload_n (pc := 58) hx hb dX4_part_58 rfl (lv_at hl 1 rfl) ?_
          refine lv_iload_n (pc := 59) hx hb dX4_part_59 rfl (lv_at hl 2 rfl) ?_
          refine lv_iload_n (pc := 60) hx hb dX4_part_60 rfl (lv_at hl 3 rfl) ?_
          obtain ⟨w40, hc41, hd⟩ := wt_bd_o hd
          refine kX4_worthOf (pc := 61) hx hb hml hown hts hK hJ hW hS hc41 hl.1 (Nat.le_of_ble_eq_true rfl) ⟨Nat.le_of_ble_eq_true rfl, Nat.le_of_ble_eq_true rfl⟩ ⟨Nat.le_refl _, Nat.le_refl _⟩ dX4_part_61 (fun H locs hW hS => ?_)
          exact mr_iret hx hb hr rfl hlocks (wt_p1 hd) (wt_p2 hd) hW hK hS dX4_part_64
        · have hd := wt_if hd c39
          refine lv_iconst (pc := 55) (v := 0) hx hb dX4_part_55 (by decide) ?_
          exact mr_iret hx hb hr rfl hlocks (wt_p1 hd) (wt_p2 hd) hW hK hS dX4_part_56
      have hd := hj33
      refine lv_if_ne (pc := 40) (tgt := 47) hx hb dX4_part_40 (by decide) (fun c36 => ?_) (fun c36 => ?_)
      · have hd := wt_if hd c36
        refine lv_iconst (pc := 47) (v := 0) hx hb dX4_part_47 (by decide) ?_
        exact hX35 (0 : Int32) (Option.some.inj hd) _ _ _ hW hS hl
      · have hd := wt_it hd c36
        refine lv_iconst (pc := 43) (v := 1) hx hb dX4_part_43 (by decide) ?_
        refine lv_goto (pc := 44) (tgt := 48) hx hb dX4_part_44 (by decide) ?_
        exact hX35 (1 : Int32) (Option.some.inj hd) _ _ _ hW hS hl
  have hd := hj5
  refine lv_if_eq (pc := 11) (tgt := 22) hx hb dX4_part_11 (by decide) (fun c8 => ?_) (fun c8 => ?_)
  · have hd := wt_it hd c8
    exact hX7 () (Option.some.inj hd) _ _ _ hW hS hl
  · have hd := wt_if hd c8
    refine lv_aload_n (pc := 14) hx hb dX4_part_14 rfl (lv_at hl 0 rfl) ?_
    refine lv_iload_n (pc := 15) hx hb dX4_part_15 rfl (lv_at hl 2 rfl) ?_
    obtain ⟨w9, hc10, hd⟩ := wt_bd_o hd
    refine kX4_isStory (pc := 16) hx hb hml hown hts hK hJ hW hS hc10 hl.1 (Nat.le_of_ble_eq_true rfl) ⟨Nat.le_of_ble_eq_true rfl, Nat.le_of_ble_eq_true rfl⟩ ⟨Nat.le_refl _, Nat.le_refl _⟩ dX4_part_16 (fun H locs hW hS => ?_)
    refine lv_if_ne (pc := 19) (tgt := 26) hx hb dX4_part_19 (by decide) (fun c11 => ?_) (fun c11 => ?_)
    · have hd := wt_if hd c11
      refine lv_iconst (pc := 26) (v := 0) hx hb dX4_part_26 (by decide) ?_
      refine lv_iconst (pc := 27) (v := 1) hx hb dX4_part_27 (by decide) ?_
      obtain ⟨w12, hc13, hd⟩ := wt_bd_o hd
      refine kX4_bad (pc := 28) hx hb hml hown hts hK hJ hW hS hc13 hl.1 (Nat.le_of_ble_eq_true rfl) ⟨Nat.le_of_ble_eq_true rfl, Nat.le_of_ble_eq_true rfl⟩ ⟨Nat.le_refl _, Nat.le_refl _⟩ dX4_part_28 (fun H locs hW hS => ?_)
      refine lv_if_ne (pc := 31) (tgt := 55) hx hb dX4_part_31 (by decide) (fun c14 => ?_) (fun c14 => ?_)
      · have hd := wt_if hd c14
        refine lv_iconst (pc := 55) (v := 0) hx hb dX4_part_55 (by decide) ?_
        have hd := wt_rs_r (Option.some.inj hd) hq6
        exact mr_iret hx hb hr rfl hlocks (wt_p1 hd) (wt_p2 hd) hW hK hS dX4_part_56
      · have hd := wt_it hd c14
        refine lv_aload_n (pc := 34) hx hb dX4_part_34 rfl (lv_at hl 0 rfl) ?_
        refine lv_aload_n (pc := 35) hx hb dX4_part_35 rfl (lv_at hl 0 rfl) ?_
        refine lv_iload_n (pc := 36) hx hb dX4_part_36 rfl (lv_at hl 3 rfl) ?_
        obtain ⟨w15, hc16, hd⟩ := wt_bd_o hd
        refine kX4_isFind (pc := 37) hx hb hml hown hts hK hJ hW hS hc16 hl.1 (Nat.le_of_ble_eq_true rfl) ⟨Nat.le_of_ble_eq_true rfl, Nat.le_of_ble_eq_true rfl⟩ ⟨Nat.le_refl _, Nat.le_refl _⟩ dX4_part_37 (fun H locs hW hS => ?_)
        obtain ⟨w17, hj18, hq19⟩ := wt_bd_o hd
        have hX20 : ∀ w17_ : Int32, w17_ = w17 → ∀ (H : Heap) (locs : List Loc) (ls : Array Slot), mW X w12.2 H → va_S (mA lo hi) s_.heap H locs → lv_has ls 4 [(0, .ref X.1.1), (1, .int a0), (2, .int a1), (3, .int a2)] → W p_ l e_ (headSpec (ws_ yX4_part cX4_part 4 (some .int)) ({ frames := 7, cells := 0, slots := 0, locals := 169 })).room s_ m_ ([.ref X.1.1, .int a0, .int a1, .int a2] : List Value).toArray below_ meth_ c_ H locs 0 0 (MQ below_ (mQi X out_.1 out_.2 (mA lo hi)) ([.ref X.1.1, .int a0, .int a1, .int a2] : List Value).toArray s_ 0 0 (mA lo hi)) (F0 m_ 48 ls [.int w17_, .ref X.1.1]) := by
          intro w17_ hw_
          have hd := hq19
          subst hw_
          clear hj18 hq19
          intro H locs ls hW hS hl
          refine lv_iconst (pc := 48) (v := 2) hx hb dX4_part_48 (by decide) ?_
          obtain ⟨w22, hc23, hd⟩ := wt_bd_o hd
          refine kX4_bad (pc := 49) hx hb hml hown hts hK hJ hW hS hc23 hl.1 (Nat.le_of_ble_eq_true rfl) ⟨Nat.le_of_ble_eq_true rfl, Nat.le_of_ble_eq_true rfl⟩ ⟨Nat.le_refl _, Nat.le_refl _⟩ dX4_part_49 (fun H locs hW hS => ?_)
          refine lv_if_eq (pc := 52) (tgt := 57) hx hb dX4_part_52 (by decide) (fun c24 => ?_) (fun c24 => ?_)
          · have hd := wt_it hd c24
            refine lv_aload_n (pc := 57) hx hb dX4_part_57 rfl (lv_at hl 0 rfl) ?_
            refine lv_iload_n (pc := 58) hx hb dX4_part_58 rfl (lv_at hl 1 rfl) ?_
            refine lv_iload_n (pc := 59) hx hb dX4_part_59 rfl (lv_at hl 2 rfl) ?_
            refine lv_iload_n (pc := 60) hx hb dX4_part_60 rfl (lv_at hl 3 rfl) ?_
            obtain ⟨w25, hc26, hd⟩ := wt_bd_o hd
            refine kX4_worthOf (pc := 61) hx hb hml hown hts hK hJ hW hS hc26 hl.1 (Nat.le_of_ble_eq_true rfl) ⟨Nat.le_of_ble_eq_true rfl, Nat.le_of_ble_eq_true rfl⟩ ⟨Nat.le_refl _, Nat.le_refl _⟩ dX4_part_61 (fun H locs hW hS => ?_)
            have hd := wt_rs_r (Option.some.inj hd) hq6
            exact mr_iret hx hb hr rfl hlocks (wt_p1 hd) (wt_p2 hd) hW hK hS dX4_part_64
          · have hd := wt_if hd c24
            refine lv_iconst (pc := 55) (v := 0) hx hb dX4_part_55 (by decide) ?_
            have hd := wt_rs_r (Option.some.inj hd) hq6
            exact mr_iret hx hb hr rfl hlocks (wt_p1 hd) (wt_p2 hd) hW hK hS dX4_part_56
        have hd := hj18
        refine lv_if_ne (pc := 40) (tgt := 47) hx hb dX4_part_40 (by decide) (fun c21 => ?_) (fun c21 => ?_)
        · have hd := wt_if hd c21
          refine lv_iconst (pc := 47) (v := 0) hx hb dX4_part_47 (by decide) ?_
          exact hX20 (0 : Int32) (Option.some.inj hd) _ _ _ hW hS hl
        · have hd := wt_it hd c21
          refine lv_iconst (pc := 43) (v := 1) hx hb dX4_part_43 (by decide) ?_
          refine lv_goto (pc := 44) (tgt := 48) hx hb dX4_part_44 (by decide) ?_
          exact hX20 (1 : Int32) (Option.some.inj hd) _ _ _ hW hS hl
    · have hd := wt_it hd c11
      exact hX7 () (Option.some.inj hd) _ _ _ hW hS hl
noncomputable def dX4_events (σ : MSt) (a0 : Int32) : Option (Int32 × MSt) :=
  wt_lt (m_sF σ 0 (0 : Int32)) fun σ1 => wt_bd (dX4_isStory σ1 a0) fun w2 => wt_bd (if w2 = 0 then (some (1 : Int32)) else (some (0 : Int32))) fun w4 => wt_bd (dX4_bad σ1 w4 (1 : Int32)) fun w9 => if w9.1 = 0 then (wt_ck (vp_in a0 4) <| some ((w9.2.2.1 25 a0.toNatClampNeg), w9.2)) else (some ((0 : Int32), w9.2))
set_option maxHeartbeats 4000000 in
theorem wX4_events (l : Launch) {X : MPar} {lo hi : Nat} (hJ : mJ X lo hi) {σ : MSt} {a0 : Int32} {out_ : Int32 × MSt} (hd : dX4_events σ a0 = some out_) : Met l yX4_events (ws_ yX4_events cX4_events 2 (some .int)) ({ frames := 2, cells := 0, slots := 0, locals := 43 }) (mP X σ [.ref X.1.1, .int a0]) (mQi X out_.1 out_.2 (mA lo hi)) 0 0 (mA lo hi) := by
  refine Met.ofW (cc := cX4_events) (maxL := 2) (ret := (some .int)) (by decide) rfl ?_
  intro p_ e_ s_ m_ args_ below_ meth_ c_ s₁_ B hml hv
  obtain ⟨rfl, hW, hK⟩ := hv
  have hx := B.exec
  have hb := B.bytes
  have hr := B.returns
  have hts := atoms_spec (ws := (ws_ yX4_events cX4_events 2 (some .int))) B.pre
  have hts : ∀ w ∈ lw_all, w.before _ s_ = true := fun w h => hts w (List.mem_cons_of_mem _ h)
  have hown : s_.vm.findClass RX4 = some m_.cls := findClass_of_methodNamed B.named
  have hlocks := B.notSynchronized
  have hS : va_S (mA lo hi) s_.heap s_.heap [] := va_S.rf
  have hl := lv_entry ([.ref X.1.1, .int a0]) (n := 2) (Nat.le_of_ble_eq_true rfl)
  rw [lg_entry_eq]
  generalize (lg_sl ([.ref X.1.1, .int a0]) ++ List.replicate (2 - (lg_sl ([.ref X.1.1, .int a0])).length) Slot.unset).toArray = ls at hl ⊢
  have hl : lv_has ls 2 [(0, .ref X.1.1), (1, .int a0)] := hl
  unfold dX4_events at hd
  refine lv_aload_n (pc := 0) hx hb dX4_events_0 rfl (lv_at hl 0 rfl) ?_
  refine lv_iconst (pc := 1) (v := 0) hx hb dX4_events_1 (by decide) ?_
  obtain ⟨σ1, eσ1, hd⟩ := wt_lt_o hd
  refine mr_put (pc := 2) (k := 0) hx hb hts hown hK hW hJ hS (by decide) rfl eσ1 q1529 dX4_events_2 (fun H locs hW hS => ?_)
  refine lv_aload_n (pc := 5) hx hb dX4_events_5 rfl (lv_at hl 0 rfl) ?_
  refine lv_aload_n (pc := 6) hx hb dX4_events_6 rfl (lv_at hl 0 rfl) ?_
  refine lv_iload_n (pc := 7) hx hb dX4_events_7 rfl (lv_at hl 1 rfl) ?_
  obtain ⟨w2, hc3, hd⟩ := wt_bd_o hd
  refine kX4_isStory (pc := 8) hx hb hml hown hts hK hJ hW hS hc3 hl.1 (Nat.le_of_ble_eq_true rfl) ⟨Nat.le_of_ble_eq_true rfl, Nat.le_of_ble_eq_true rfl⟩ ⟨Nat.le_refl _, Nat.le_refl _⟩ dX4_events_8 (fun H locs hW hS => ?_)
  obtain ⟨w4, hj5, hq6⟩ := wt_bd_o hd
  have hX7 : ∀ w4_ : Int32, w4_ = w4 → ∀ (H : Heap) (locs : List Loc) (ls : Array Slot), mW X σ1 H → va_S (mA lo hi) s_.heap H locs → lv_has ls 2 [(0, .ref X.1.1), (1, .int a0)] → W p_ l e_ (headSpec (ws_ yX4_events cX4_events 2 (some .int)) ({ frames := 2, cells := 0, slots := 0, locals := 43 })).room s_ m_ ([.ref X.1.1, .int a0] : List Value).toArray below_ meth_ c_ H locs 0 0 (MQ below_ (mQi X out_.1 out_.2 (mA lo hi)) ([.ref X.1.1, .int a0] : List Value).toArray s_ 0 0 (mA lo hi)) (F0 m_ 19 ls [.int w4_, .ref X.1.1]) := by
    intro w4_ hw_
    have hd := hq6
    subst hw_
    clear hj5 hq6
    intro H locs ls hW hS hl
    refine lv_iconst (pc := 19) (v := 1) hx hb dX4_events_19 (by decide) ?_
    obtain ⟨w9, hc10, hd⟩ := wt_bd_o hd
    refine kX4_bad (pc := 20) hx hb hml hown hts hK hJ hW hS hc10 hl.1 (Nat.le_of_ble_eq_true rfl) ⟨Nat.le_of_ble_eq_true rfl, Nat.le_of_ble_eq_true rfl⟩ ⟨Nat.le_refl _, Nat.le_refl _⟩ dX4_events_20 (fun H locs hW hS => ?_)
    refine lv_if_eq (pc := 23) (tgt := 28) hx hb dX4_events_23 (by decide) (fun c11 => ?_) (fun c11 => ?_)
    · have hd := wt_it hd c11
      refine lv_aload_n (pc := 28) hx hb dX4_events_28 rfl (lv_at hl 0 rfl) ?_
      refine mr_get (pc := 29) (k := 25) (v := .ref (X.1.2.1 25)) hx hb hts hown hK hW (by decide) rfl q1554 dX4_events_29 ?_
      refine lv_iload_n (pc := 32) hx hb dX4_events_32 rfl (lv_at hl 1 rfl) ?_
      obtain ⟨h12, hd⟩ := wt_ck_o hd
      refine mr_ald (pc := 33) (k := 25) hx hb hK hW rfl h12 dX4_events_33 ?_
      exact mr_iret hx hb hr rfl hlocks (wt_p1 hd) (wt_p2 hd) hW hK hS dX4_events_34
    · have hd := wt_if hd c11
      refine lv_iconst (pc := 26) (v := 0) hx hb dX4_events_26 (by decide) ?_
      exact mr_iret hx hb hr rfl hlocks (wt_p1 hd) (wt_p2 hd) hW hK hS dX4_events_27
  have hd := hj5
  refine lv_if_ne (pc := 11) (tgt := 18) hx hb dX4_events_11 (by decide) (fun c8 => ?_) (fun c8 => ?_)
  · have hd := wt_if hd c8
    refine lv_iconst (pc := 18) (v := 0) hx hb dX4_events_18 (by decide) ?_
    exact hX7 (0 : Int32) (Option.some.inj hd) _ _ _ hW hS hl
  · have hd := wt_it hd c8
    refine lv_iconst (pc := 14) (v := 1) hx hb dX4_events_14 (by decide) ?_
    refine lv_goto (pc := 15) (tgt := 19) hx hb dX4_events_15 (by decide) ?_
    exact hX7 (1 : Int32) (Option.some.inj hd) _ _ _ hW hS hl
noncomputable def dX4_plain (σ : MSt)  : Option (MSt) :=
  wt_lt (m_sF σ 41 (-1 : Int32)) fun σ1 => wt_lt (m_sF σ1 42 (-1 : Int32)) fun σ2 => wt_lt (m_sF σ2 45 (-1 : Int32)) fun σ3 => some σ3
set_option maxHeartbeats 4000000 in
theorem wX4_plain (l : Launch) {X : MPar} {lo hi : Nat} (hJ : mJ X lo hi) {σ : MSt}  {out_ : MSt} (hd : dX4_plain σ = some out_) : Met l yX4_plain (ws_ yX4_plain cX4_plain 1 none) ({ frames := 0, cells := 0, slots := 0, locals := 0 }) (mP X σ [.ref X.1.1]) (mQv X out_ (mA lo hi)) 0 0 (mA lo hi) := by
  refine Met.ofW (cc := cX4_plain) (maxL := 1) (ret := none) (by decide) rfl ?_
  intro p_ e_ s_ m_ args_ below_ meth_ c_ s₁_ B hml hv
  obtain ⟨rfl, hW, hK⟩ := hv
  have hx := B.exec
  have hb := B.bytes
  have hr := B.returns
  have hts := atoms_spec (ws := (ws_ yX4_plain cX4_plain 1 none)) B.pre
  have hts : ∀ w ∈ lw_all, w.before _ s_ = true := fun w h => hts w (List.mem_cons_of_mem _ h)
  have hown : s_.vm.findClass RX4 = some m_.cls := findClass_of_methodNamed B.named
  have hlocks := B.notSynchronized
  have hS : va_S (mA lo hi) s_.heap s_.heap [] := va_S.rf
  have hl := lv_entry ([.ref X.1.1]) (n := 1) (Nat.le_of_ble_eq_true rfl)
  rw [lg_entry_eq]
  generalize (lg_sl ([.ref X.1.1]) ++ List.replicate (1 - (lg_sl ([.ref X.1.1])).length) Slot.unset).toArray = ls at hl ⊢
  have hl : lv_has ls 1 [(0, .ref X.1.1)] := hl
  unfold dX4_plain at hd
  refine lv_aload_n (pc := 0) hx hb dX4_plain_0 rfl (lv_at hl 0 rfl) ?_
  refine lv_iconst (pc := 1) (v := -1) hx hb dX4_plain_1 (by decide) ?_
  obtain ⟨σ1, eσ1, hd⟩ := wt_lt_o hd
  refine mr_put (pc := 2) (k := 41) hx hb hts hown hK hW hJ hS (by decide) rfl eσ1 q1570 dX4_plain_2 (fun H locs hW hS => ?_)
  refine lv_aload_n (pc := 5) hx hb dX4_plain_5 rfl (lv_at hl 0 rfl) ?_
  refine lv_iconst (pc := 6) (v := -1) hx hb dX4_plain_6 (by decide) ?_
  obtain ⟨σ2, eσ2, hd⟩ := wt_lt_o hd
  refine mr_put (pc := 7) (k := 42) hx hb hts hown hK hW hJ hS (by decide) rfl eσ2 q1571 dX4_plain_7 (fun H locs hW hS => ?_)
  refine lv_aload_n (pc := 10) hx hb dX4_plain_10 rfl (lv_at hl 0 rfl) ?_
  refine lv_iconst (pc := 11) (v := -1) hx hb dX4_plain_11 (by decide) ?_
  obtain ⟨σ3, eσ3, hd⟩ := wt_lt_o hd
  refine mr_put (pc := 12) (k := 45) hx hb hts hown hK hW hJ hS (by decide) rfl eσ3 q1574 dX4_plain_12 (fun H locs hW hS => ?_)
  exact mr_vret hx hb hr hlocks (Option.some.inj hd) hW hK hS dX4_plain_15
theorem kX4_plain {p : Program} {l : Launch} {e : Env} {R : Room} {s : State} {m : MethodId} {args : Array Value} {below : List Frame} {meth : Method} {c : Code} {H : Heap} {locs : List Loc} {cells slots : Nat} {Q : State → Prop} {cc : ByteArray} {pc : Nat} {ls : Array Slot} {rest : List Value} {H0 : Heap} {nL : Nat} {X : MPar} {lo hi : Nat} {σ : MSt}  {out_ : MSt} (hx : p.tables.exec = Jvm.exec) (hb : c.code = cc) (hml : c.maxLocals = nL) (hown : s.vm.findClass RX4 = some m.cls) (hts : ∀ w ∈ lw_all, w.before args s = true) (hK : mK X s) (hJ : mJ X lo hi) (hW : mW X σ H) (hS : va_S (mA lo hi) H0 H locs) (hd : dX4_plain σ = some out_) (hsz : ls.size = nL) (hrm : (rest.map fun v => v.category).sum ≤ 8) (hR : 1 ≤ R.frames ∧ 20 ≤ R.locals) (hcs : cells ≤ R.cells ∧ slots ≤ R.slots) (hdg : decode cc pc = .ok (.invokevirtual 293, 3)) (kk : ∀ (H1 : Heap) (locs1 : List Loc), mW X out_ H1 → va_S (mA lo hi) H0 H1 locs1 → W p l e R s m args below meth c H1 locs1 cells slots Q (F0 m (pc + 3) ls (rest))) : W p l e R s m args below meth c H locs cells slots Q (F0 m pc ls (.ref X.1.1 :: rest)) := by
  refine va_callv (va_runV (As := []) (rest := rest) ⟨hx, hb, hml, hown, hts⟩ (wX4_plain l hJ hd) (cwV 0 hts (lw_V q1926 q1928 qs60 q88 q1929) rfl rfl rfl (by decide +kernel) hR) (mr_pre hK hW) rfl rfl hsz rfl (lv_room hrm) hdg hcs) hS (fun _ _ h => h) (fun _ h => h) (fun u t H1 locs1 ht hvm hp hB hz hk hS1 => ?_)
  have hW1 : mW X out_ t.heap := hB.1
  rw [ht] at hW1
  exact kk H1 locs1 hW1 hS1
noncomputable def dX4_counts (σ : MSt) (a0 : Int32) (a1 : Int32) : Option (Int32 × MSt) :=
  wt_lt (m_sF σ 0 (0 : Int32)) fun σ1 => wt_bd (dX4_isStory σ1 a0) fun w2 => wt_bd (if w2 = 0 then (some (1 : Int32)) else (some (0 : Int32))) fun w4 => wt_bd (dX4_bad σ1 w4 (1 : Int32)) fun w9 => if w9.1 = 0 then (wt_ck (vp_in a0 4) <| wt_bd (dX4_in a1 (0 : Int32) ((w9.2.2.1 25 a0.toNatClampNeg) - (1 : Int32))) fun w13 => wt_bd (if w13 = 0 then (some (1 : Int32)) else (some (0 : Int32))) fun w15 => wt_bd (dX4_bad w9.2 w15 (2 : Int32)) fun w20 => if w20.1 = 0 then (wt_bd (dX4_numbers w20.2 (0 : Int32) a0 (-1 : Int32)) fun w23 => wt_lt ((w23.1 49)) fun n25 => wt_lt (m_sF w23 41 a1) fun σ26 => wt_bd (dX4_numbers σ26 (1 : Int32) a0 (-1 : Int32)) fun w27 => wt_bd (dX4_plain w27) fun w29 => wt_bd (dX4_levels w29 n25 (w29.1 49)) fun w31 => wt_bd (dX4_worthNow w31) fun w33 => some (w33.1, w33.2)) else (some ((0 : Int32), w20.2))) else (some ((0 : Int32), w9.2))
set_option maxHeartbeats 4000000 in
theorem wX4_counts (l : Launch) {X : MPar} {lo hi : Nat} (hJ : mJ X lo hi) {σ : MSt} {a0 : Int32} {a1 : Int32} {out_ : Int32 × MSt} (hd : dX4_counts σ a0 a1 = some out_) : Met l yX4_counts (ws_ yX4_counts cX4_counts 4 (some .int)) ({ frames := 5, cells := 0, slots := 0, locals := 122 }) (mP X σ [.ref X.1.1, .int a0, .int a1]) (mQi X out_.1 out_.2 (mA lo hi)) 0 0 (mA lo hi) := by
  refine Met.ofW (cc := cX4_counts) (maxL := 4) (ret := (some .int)) (by decide) rfl ?_
  intro p_ e_ s_ m_ args_ below_ meth_ c_ s₁_ B hml hv
  obtain ⟨rfl, hW, hK⟩ := hv
  have hx := B.exec
  have hb := B.bytes
  have hr := B.returns
  have hts := atoms_spec (ws := (ws_ yX4_counts cX4_counts 4 (some .int))) B.pre
  have hts : ∀ w ∈ lw_all, w.before _ s_ = true := fun w h => hts w (List.mem_cons_of_mem _ h)
  have hown : s_.vm.findClass RX4 = some m_.cls := findClass_of_methodNamed B.named
  have hlocks := B.notSynchronized
  have hS : va_S (mA lo hi) s_.heap s_.heap [] := va_S.rf
  have hl := lv_entry ([.ref X.1.1, .int a0, .int a1]) (n := 4) (Nat.le_of_ble_eq_true rfl)
  rw [lg_entry_eq]
  generalize (lg_sl ([.ref X.1.1, .int a0, .int a1]) ++ List.replicate (4 - (lg_sl ([.ref X.1.1, .int a0, .int a1])).length) Slot.unset).toArray = ls at hl ⊢
  have hl : lv_has ls 4 [(0, .ref X.1.1), (1, .int a0), (2, .int a1)] := hl
  unfold dX4_counts at hd
  refine lv_aload_n (pc := 0) hx hb dX4_counts_0 rfl (lv_at hl 0 rfl) ?_
  refine lv_iconst (pc := 1) (v := 0) hx hb dX4_counts_1 (by decide) ?_
  obtain ⟨σ1, eσ1, hd⟩ := wt_lt_o hd
  refine mr_put (pc := 2) (k := 0) hx hb hts hown hK hW hJ hS (by decide) rfl eσ1 q1529 dX4_counts_2 (fun H locs hW hS => ?_)
  refine lv_aload_n (pc := 5) hx hb dX4_counts_5 rfl (lv_at hl 0 rfl) ?_
  refine lv_aload_n (pc := 6) hx hb dX4_counts_6 rfl (lv_at hl 0 rfl) ?_
  refine lv_iload_n (pc := 7) hx hb dX4_counts_7 rfl (lv_at hl 1 rfl) ?_
  obtain ⟨w2, hc3, hd⟩ := wt_bd_o hd
  refine kX4_isStory (pc := 8) hx hb hml hown hts hK hJ hW hS hc3 hl.1 (Nat.le_of_ble_eq_true rfl) ⟨Nat.le_of_ble_eq_true rfl, Nat.le_of_ble_eq_true rfl⟩ ⟨Nat.le_refl _, Nat.le_refl _⟩ dX4_counts_8 (fun H locs hW hS => ?_)
  obtain ⟨w4, hj5, hq6⟩ := wt_bd_o hd
  have hX7 : ∀ w4_ : Int32, w4_ = w4 → ∀ (H : Heap) (locs : List Loc) (ls : Array Slot), mW X σ1 H → va_S (mA lo hi) s_.heap H locs → lv_has ls 4 [(0, .ref X.1.1), (1, .int a0), (2, .int a1)] → W p_ l e_ (headSpec (ws_ yX4_counts cX4_counts 4 (some .int)) ({ frames := 5, cells := 0, slots := 0, locals := 122 })).room s_ m_ ([.ref X.1.1, .int a0, .int a1] : List Value).toArray below_ meth_ c_ H locs 0 0 (MQ below_ (mQi X out_.1 out_.2 (mA lo hi)) ([.ref X.1.1, .int a0, .int a1] : List Value).toArray s_ 0 0 (mA lo hi)) (F0 m_ 19 ls [.int w4_, .ref X.1.1]) := by
    intro w4_ hw_
    have hd := hq6
    subst hw_
    clear hj5 hq6
    intro H locs ls hW hS hl
    refine lv_iconst (pc := 19) (v := 1) hx hb dX4_counts_19 (by decide) ?_
    obtain ⟨w9, hc10, hd⟩ := wt_bd_o hd
    refine kX4_bad (pc := 20) hx hb hml hown hts hK hJ hW hS hc10 hl.1 (Nat.le_of_ble_eq_true rfl) ⟨Nat.le_of_ble_eq_true rfl, Nat.le_of_ble_eq_true rfl⟩ ⟨Nat.le_refl _, Nat.le_refl _⟩ dX4_counts_20 (fun H locs hW hS => ?_)
    refine lv_if_ne (pc := 23) (tgt := 55) hx hb dX4_counts_23 (by decide) (fun c11 => ?_) (fun c11 => ?_)
    · have hd := wt_if hd c11
      refine lv_iconst (pc := 55) (v := 0) hx hb dX4_counts_55 (by decide) ?_
      exact mr_iret hx hb hr rfl hlocks (wt_p1 hd) (wt_p2 hd) hW hK hS dX4_counts_56
    · have hd := wt_it hd c11
      refine lv_aload_n (pc := 26) hx hb dX4_counts_26 rfl (lv_at hl 0 rfl) ?_
      refine lv_iload_n (pc := 27) hx hb dX4_counts_27 rfl (lv_at hl 2 rfl) ?_
      refine lv_iconst (pc := 28) (v := 0) hx hb dX4_counts_28 (by decide) ?_
      refine lv_aload_n (pc := 29) hx hb dX4_counts_29 rfl (lv_at hl 0 rfl) ?_
      refine mr_get (pc := 30) (k := 25) (v := .ref (X.1.2.1 25)) hx hb hts hown hK hW (by decide) rfl q1554 dX4_counts_30 ?_
      refine lv_iload_n (pc := 33) hx hb dX4_counts_33 rfl (lv_at hl 1 rfl) ?_
      obtain ⟨h12, hd⟩ := wt_ck_o hd
      refine mr_ald (pc := 34) (k := 25) hx hb hK hW rfl h12 dX4_counts_34 ?_
      refine lv_iconst (pc := 35) (v := 1) hx hb dX4_counts_35 (by decide) ?_
      refine lv_isub (pc := 36) hx hb dX4_counts_36 ?_
      obtain ⟨w13, hc14, hd⟩ := wt_bd_o hd
      refine kX4_in (pc := 37) hx hb hml hown hts hK hW hS hc14 hl.1 (Nat.le_of_ble_eq_true rfl) ⟨Nat.le_of_ble_eq_true rfl, Nat.le_of_ble_eq_true rfl⟩ ⟨Nat.le_refl _, Nat.le_refl _⟩ dX4_counts_37 (fun H locs hW hS => ?_)
      obtain ⟨w15, hj16, hq17⟩ := wt_bd_o hd
      have hX18 : ∀ w15_ : Int32, w15_ = w15 → ∀ (H : Heap) (locs : List Loc) (ls : Array Slot), mW X w9.2 H → va_S (mA lo hi) s_.heap H locs → lv_has ls 4 [(0, .ref X.1.1), (1, .int a0), (2, .int a1)] → W p_ l e_ (headSpec (ws_ yX4_counts cX4_counts 4 (some .int)) ({ frames := 5, cells := 0, slots := 0, locals := 122 })).room s_ m_ ([.ref X.1.1, .int a0, .int a1] : List Value).toArray below_ meth_ c_ H locs 0 0 (MQ below_ (mQi X out_.1 out_.2 (mA lo hi)) ([.ref X.1.1, .int a0, .int a1] : List Value).toArray s_ 0 0 (mA lo hi)) (F0 m_ 48 ls [.int w15_, .ref X.1.1]) := by
        intro w15_ hw_
        have hd := hq17
        subst hw_
        clear hj16 hq17
        intro H locs ls hW hS hl
        refine lv_iconst (pc := 48) (v := 2) hx hb dX4_counts_48 (by decide) ?_
        obtain ⟨w20, hc21, hd⟩ := wt_bd_o hd
        refine kX4_bad (pc := 49) hx hb hml hown hts hK hJ hW hS hc21 hl.1 (Nat.le_of_ble_eq_true rfl) ⟨Nat.le_of_ble_eq_true rfl, Nat.le_of_ble_eq_true rfl⟩ ⟨Nat.le_refl _, Nat.le_refl _⟩ dX4_counts_49 (fun H locs hW hS => ?_)
        refine lv_if_eq (pc := 52) (tgt := 57) hx hb dX4_counts_52 (by decide) (fun c22 => ?_) (fun c22 => ?_)
        · have hd := wt_it hd c22
          refine lv_aload_n (pc := 57) hx hb dX4_counts_57 rfl (lv_at hl 0 rfl) ?_
          refine lv_iconst (pc := 58) (v := 0) hx hb dX4_counts_58 (by decide) ?_
          refine lv_iload_n (pc := 59) hx hb dX4_counts_59 rfl (lv_at hl 1 rfl) ?_
          refine lv_iconst (pc := 60) (v := -1) hx hb dX4_counts_60 (by decide) ?_
          obtain ⟨w23, hc24, hd⟩ := wt_bd_o hd
          refine kX4_numbers (pc := 61) hx hb hml hown hts hK hJ hW hS hc24 hl.1 (Nat.le_of_ble_eq_true rfl) ⟨Nat.le_of_ble_eq_true rfl, Nat.le_of_ble_eq_true rfl⟩ ⟨Nat.le_refl _, Nat.le_refl _⟩ dX4_counts_61 (fun H locs hW hS => ?_)
          refine lv_aload_n (pc := 64) hx hb dX4_counts_64 rfl (lv_at hl 0 rfl) ?_
          refine mr_get (pc := 65) (k := 49) (v := .int ((w23.1 49))) hx hb hts hown hK hW (by decide) rfl q1578 dX4_counts_65 ?_
          obtain ⟨n25, en25, hd⟩ := wt_lt_o hd
          refine lv_tope en25 ?_
          refine lv_istore_n (pc := 68) (lv' := [(3, .int n25), (0, .ref X.1.1), (1, .int a0), (2, .int a1)]) hx hb dX4_counts_68 rfl hl (by decide) rfl (fun ls hl => ?_)
          refine lv_aload_n (pc := 69) hx hb dX4_counts_69 rfl (lv_at hl 1 rfl) ?_
          refine lv_iload_n (pc := 70) hx hb dX4_counts_70 rfl (lv_at hl 3 rfl) ?_
          obtain ⟨σ26, eσ26, hd⟩ := wt_lt_o hd
          refine mr_put (pc := 71) (k := 41) hx hb hts hown hK hW hJ hS (by decide) rfl eσ26 q1570 dX4_counts_71 (fun H locs hW hS => ?_)
          refine lv_aload_n (pc := 74) hx hb dX4_counts_74 rfl (lv_at hl 1 rfl) ?_
          refine lv_iconst (pc := 75) (v := 1) hx hb dX4_counts_75 (by decide) ?_
          refine lv_iload_n (pc := 76) hx hb dX4_counts_76 rfl (lv_at hl 2 rfl) ?_
          refine lv_iconst (pc := 77) (v := -1) hx hb dX4_counts_77 (by decide) ?_
          obtain ⟨w27, hc28, hd⟩ := wt_bd_o hd
          refine kX4_numbers (pc := 78) hx hb hml hown hts hK hJ hW hS hc28 hl.1 (Nat.le_of_ble_eq_true rfl) ⟨Nat.le_of_ble_eq_true rfl, Nat.le_of_ble_eq_true rfl⟩ ⟨Nat.le_refl _, Nat.le_refl _⟩ dX4_counts_78 (fun H locs hW hS => ?_)
          refine lv_aload_n (pc := 81) hx hb dX4_counts_81 rfl (lv_at hl 1 rfl) ?_
          obtain ⟨w29, hc30, hd⟩ := wt_bd_o hd
          refine kX4_plain (pc := 82) hx hb hml hown hts hK hJ hW hS hc30 hl.1 (Nat.le_of_ble_eq_true rfl) ⟨Nat.le_of_ble_eq_true rfl, Nat.le_of_ble_eq_true rfl⟩ ⟨Nat.le_refl _, Nat.le_refl _⟩ dX4_counts_82 (fun H locs hW hS => ?_)
          refine lv_aload_n (pc := 85) hx hb dX4_counts_85 rfl (lv_at hl 1 rfl) ?_
          refine lv_iload_n (pc := 86) hx hb dX4_counts_86 rfl (lv_at hl 0 rfl) ?_
          refine lv_aload_n (pc := 87) hx hb dX4_counts_87 rfl (lv_at hl 1 rfl) ?_
          refine mr_get (pc := 88) (k := 49) (v := .int ((w29.1 49))) hx hb hts hown hK hW (by decide) rfl q1578 dX4_counts_88 ?_
          obtain ⟨w31, hc32, hd⟩ := wt_bd_o hd
          refine kX4_levels (pc := 91) hx hb hml hown hts hK hJ hW hS hc32 hl.1 (Nat.le_of_ble_eq_true rfl) ⟨Nat.le_of_ble_eq_true rfl, Nat.le_of_ble_eq_true rfl⟩ ⟨Nat.le_refl _, Nat.le_refl _⟩ dX4_counts_91 (fun H locs hW hS => ?_)
          refine lv_aload_n (pc := 94) hx hb dX4_counts_94 rfl (lv_at hl 1 rfl) ?_
          obtain ⟨w33, hc34, hd⟩ := wt_bd_o hd
          refine kX4_worthNow (pc := 95) hx hb hml hown hts hK hJ hW hS hc34 hl.1 (Nat.le_of_ble_eq_true rfl) ⟨Nat.le_of_ble_eq_true rfl, Nat.le_of_ble_eq_true rfl⟩ ⟨Nat.le_refl _, Nat.le_refl _⟩ dX4_counts_95 (fun H locs hW hS => ?_)
          exact mr_iret hx hb hr rfl hlocks (wt_p1 hd) (wt_p2 hd) hW hK hS dX4_counts_98
        · have hd := wt_if hd c22
          refine lv_iconst (pc := 55) (v := 0) hx hb dX4_counts_55 (by decide) ?_
          exact mr_iret hx hb hr rfl hlocks (wt_p1 hd) (wt_p2 hd) hW hK hS dX4_counts_56
      have hd := hj16
      refine lv_if_ne (pc := 40) (tgt := 47) hx hb dX4_counts_40 (by decide) (fun c19 => ?_) (fun c19 => ?_)
      · have hd := wt_if hd c19
        refine lv_iconst (pc := 47) (v := 0) hx hb dX4_counts_47 (by decide) ?_
        exact hX18 (0 : Int32) (Option.some.inj hd) _ _ _ hW hS hl
      · have hd := wt_it hd c19
        refine lv_iconst (pc := 43) (v := 1) hx hb dX4_counts_43 (by decide) ?_
        refine lv_goto (pc := 44) (tgt := 48) hx hb dX4_counts_44 (by decide) ?_
        exact hX18 (1 : Int32) (Option.some.inj hd) _ _ _ hW hS hl
  have hd := hj5
  refine lv_if_ne (pc := 11) (tgt := 18) hx hb dX4_counts_11 (by decide) (fun c8 => ?_) (fun c8 => ?_)
  · have hd := wt_if hd c8
    refine lv_iconst (pc := 18) (v := 0) hx hb dX4_counts_18 (by decide) ?_
    exact hX7 (0 : Int32) (Option.some.inj hd) _ _ _ hW hS hl
  · have hd := wt_it hd c8
    refine lv_iconst (pc := 14) (v := 1) hx hb dX4_counts_14 (by decide) ?_
    refine lv_goto (pc := 15) (tgt := 19) hx hb dX4_counts_15 (by decide) ?_
    exact hX7 (1 : Int32) (Option.some.inj hd) _ _ _ hW hS hl
noncomputable def bX4_needed_1 (a0 : Int32) (a1 : Int32) (v17 : Int32 × Int32 × MSt) : Option ((Int32 × Int32 × MSt) ⊕ ((MSt) ⊕ (Int32 × MSt))) :=
  wt_ck (vp_in a0 4) <| if (v17.2.2.2.1 25 a0.toNatClampNeg) ≤ v17.2.1 then (some (.inr (.inl v17.2.2))) else (wt_lt (m_sF v17.2.2 41 v17.2.1) fun σ29 => wt_bd (dX4_numbers σ29 (0 : Int32) a0 (-1 : Int32)) fun w30 => wt_bd (dX4_plain w30) fun w32 => wt_bd (dX4_isNothing w32 (0 : Int32)) fun w34 => if w34 = 0 then (wt_lt (v17.2.1 + (1 : Int32)) fun n40 => some (.inl (v17.1, n40, w32))) else (if v17.1 = a1 then (some (.inr (.inr (v17.2.1, w32)))) else (wt_lt (v17.1 + (1 : Int32)) fun n38 => wt_lt (v17.2.1 + (1 : Int32)) fun n39 => some (.inl (n38, n39, w32)))))
noncomputable def dX4_needed (σ : MSt) (a0 : Int32) (a1 : Int32) : Option (Int32 × MSt) :=
  wt_lt (m_sF σ 0 (0 : Int32)) fun σ1 => wt_bd (dX4_isStory σ1 a0) fun w2 => wt_bd (if w2 = 0 then (some (1 : Int32)) else (some (0 : Int32))) fun w4 => wt_bd (dX4_bad σ1 w4 (1 : Int32)) fun w9 => if w9.1 = 0 then (wt_bd (dX4_numbers w9.2 (0 : Int32) a0 (-1 : Int32)) fun w12 => wt_bd (dX4_isNothing w12 (0 : Int32)) fun w14 => if w14 = 0 then (wt_bd (wt_whC (bX4_needed_1 a0 a1) ((0 : Int32), (0 : Int32), w12)) fun w18 => wt_rs w18 (fun w18 => some ((-1 : Int32), w18)) (fun z_ => some z_)) else (some ((-1 : Int32), w12))) else (some ((0 : Int32), w9.2))
set_option maxHeartbeats 4000000 in
theorem wX4_needed (l : Launch) {X : MPar} {lo hi : Nat} (hJ : mJ X lo hi) {σ : MSt} {a0 : Int32} {a1 : Int32} {out_ : Int32 × MSt} (hd : dX4_needed σ a0 a1 = some out_) : Met l yX4_needed (ws_ yX4_needed cX4_needed 5 (some .int)) ({ frames := 5, cells := 0, slots := 0, locals := 122 }) (mP X σ [.ref X.1.1, .int a0, .int a1]) (mQi X out_.1 out_.2 (mA lo hi)) 0 0 (mA lo hi) := by
  refine Met.ofW (cc := cX4_needed) (maxL := 5) (ret := (some .int)) (by decide) rfl ?_
  intro p_ e_ s_ m_ args_ below_ meth_ c_ s₁_ B hml hv
  obtain ⟨rfl, hW, hK⟩ := hv
  have hx := B.exec
  have hb := B.bytes
  have hr := B.returns
  have hts := atoms_spec (ws := (ws_ yX4_needed cX4_needed 5 (some .int))) B.pre
  have hts : ∀ w ∈ lw_all, w.before _ s_ = true := fun w h => hts w (List.mem_cons_of_mem _ h)
  have hown : s_.vm.findClass RX4 = some m_.cls := findClass_of_methodNamed B.named
  have hlocks := B.notSynchronized
  have hS : va_S (mA lo hi) s_.heap s_.heap [] := va_S.rf
  have hl := lv_entry ([.ref X.1.1, .int a0, .int a1]) (n := 5) (Nat.le_of_ble_eq_true rfl)
  rw [lg_entry_eq]
  generalize (lg_sl ([.ref X.1.1, .int a0, .int a1]) ++ List.replicate (5 - (lg_sl ([.ref X.1.1, .int a0, .int a1])).length) Slot.unset).toArray = ls at hl ⊢
  have hl : lv_has ls 5 [(0, .ref X.1.1), (1, .int a0), (2, .int a1)] := hl
  unfold dX4_needed at hd
  refine lv_aload_n (pc := 0) hx hb dX4_needed_0 rfl (lv_at hl 0 rfl) ?_
  refine lv_iconst (pc := 1) (v := 0) hx hb dX4_needed_1 (by decide) ?_
  obtain ⟨σ1, eσ1, hd⟩ := wt_lt_o hd
  refine mr_put (pc := 2) (k := 0) hx hb hts hown hK hW hJ hS (by decide) rfl eσ1 q1529 dX4_needed_2 (fun H locs hW hS => ?_)
  refine lv_aload_n (pc := 5) hx hb dX4_needed_5 rfl (lv_at hl 0 rfl) ?_
  refine lv_aload_n (pc := 6) hx hb dX4_needed_6 rfl (lv_at hl 0 rfl) ?_
  refine lv_iload_n (pc := 7) hx hb dX4_needed_7 rfl (lv_at hl 1 rfl) ?_
  obtain ⟨w2, hc3, hd⟩ := wt_bd_o hd
  refine kX4_isStory (pc := 8) hx hb hml hown hts hK hJ hW hS hc3 hl.1 (Nat.le_of_ble_eq_true rfl) ⟨Nat.le_of_ble_eq_true rfl, Nat.le_of_ble_eq_true rfl⟩ ⟨Nat.le_refl _, Nat.le_refl _⟩ dX4_needed_8 (fun H locs hW hS => ?_)
  obtain ⟨w4, hj5, hq6⟩ := wt_bd_o hd
  have hX7 : ∀ w4_ : Int32, w4_ = w4 → ∀ (H : Heap) (locs : List Loc) (ls : Array Slot), mW X σ1 H → va_S (mA lo hi) s_.heap H locs → lv_has ls 5 [(0, .ref X.1.1), (1, .int a0), (2, .int a1)] → W p_ l e_ (headSpec (ws_ yX4_needed cX4_needed 5 (some .int)) ({ frames := 5, cells := 0, slots := 0, locals := 122 })).room s_ m_ ([.ref X.1.1, .int a0, .int a1] : List Value).toArray below_ meth_ c_ H locs 0 0 (MQ below_ (mQi X out_.1 out_.2 (mA lo hi)) ([.ref X.1.1, .int a0, .int a1] : List Value).toArray s_ 0 0 (mA lo hi)) (F0 m_ 19 ls [.int w4_, .ref X.1.1]) := by
    intro w4_ hw_
    have hd := hq6
    subst hw_
    clear hj5 hq6
    intro H locs ls hW hS hl
    refine lv_iconst (pc := 19) (v := 1) hx hb dX4_needed_19 (by decide) ?_
    obtain ⟨w9, hc10, hd⟩ := wt_bd_o hd
    refine kX4_bad (pc := 20) hx hb hml hown hts hK hJ hW hS hc10 hl.1 (Nat.le_of_ble_eq_true rfl) ⟨Nat.le_of_ble_eq_true rfl, Nat.le_of_ble_eq_true rfl⟩ ⟨Nat.le_refl _, Nat.le_refl _⟩ dX4_needed_20 (fun H locs hW hS => ?_)
    refine lv_if_eq (pc := 23) (tgt := 28) hx hb dX4_needed_23 (by decide) (fun c11 => ?_) (fun c11 => ?_)
    · have hd := wt_it hd c11
      refine lv_aload_n (pc := 28) hx hb dX4_needed_28 rfl (lv_at hl 0 rfl) ?_
      refine lv_iconst (pc := 29) (v := 0) hx hb dX4_needed_29 (by decide) ?_
      refine lv_iload_n (pc := 30) hx hb dX4_needed_30 rfl (lv_at hl 1 rfl) ?_
      refine lv_iconst (pc := 31) (v := -1) hx hb dX4_needed_31 (by decide) ?_
      obtain ⟨w12, hc13, hd⟩ := wt_bd_o hd
      refine kX4_numbers (pc := 32) hx hb hml hown hts hK hJ hW hS hc13 hl.1 (Nat.le_of_ble_eq_true rfl) ⟨Nat.le_of_ble_eq_true rfl, Nat.le_of_ble_eq_true rfl⟩ ⟨Nat.le_refl _, Nat.le_refl _⟩ dX4_needed_32 (fun H locs hW hS => ?_)
      refine lv_aload_n (pc := 35) hx hb dX4_needed_35 rfl (lv_at hl 0 rfl) ?_
      refine lv_iconst (pc := 36) (v := 0) hx hb dX4_needed_36 (by decide) ?_
      obtain ⟨w14, hc15, hd⟩ := wt_bd_o hd
      refine kX4_isNothing (pc := 37) hx hb hml hown hts hK hJ hW hS hc15 hl.1 (Nat.le_of_ble_eq_true rfl) ⟨Nat.le_of_ble_eq_true rfl, Nat.le_of_ble_eq_true rfl⟩ ⟨Nat.le_refl _, Nat.le_refl _⟩ dX4_needed_37 (fun H locs hW hS => ?_)
      refine lv_if_eq (pc := 40) (tgt := 45) hx hb dX4_needed_40 (by decide) (fun c16 => ?_) (fun c16 => ?_)
      · have hd := wt_it hd c16
        refine lv_iconst (pc := 45) (v := 0) hx hb dX4_needed_45 (by decide) ?_
        refine lv_istore_n (pc := 46) (lv' := [(3, .int (0 : Int32)), (0, .ref X.1.1), (1, .int a0), (2, .int a1)]) hx hb dX4_needed_46 rfl hl (by decide) rfl (fun ls hl => ?_)
        refine lv_iconst (pc := 47) (v := 0) hx hb dX4_needed_47 (by decide) ?_
        refine lv_istore (pc := 48) (lv' := [(4, .int (0 : Int32)), (3, .int (0 : Int32)), (0, .ref X.1.1), (1, .int a0), (2, .int a1)]) hx hb dX4_needed_48 hl (by decide) rfl (fun ls hl => ?_)
        obtain ⟨w18, hL19, hq20⟩ := wt_bd_o hd
        have hX21 : ∀ w18_ : MSt, (Sum.inl w18_ : (MSt) ⊕ _) = w18 → ∀ (H : Heap) (locs : List Loc) (ls : Array Slot), mW X w18_ H → va_S (mA lo hi) s_.heap H locs → lv_has ls 5 [] → W p_ l e_ (headSpec (ws_ yX4_needed cX4_needed 5 (some .int)) ({ frames := 5, cells := 0, slots := 0, locals := 122 })).room s_ m_ ([.ref X.1.1, .int a0, .int a1] : List Value).toArray below_ meth_ c_ H locs 0 0 (MQ below_ (mQi X out_.1 out_.2 (mA lo hi)) ([.ref X.1.1, .int a0, .int a1] : List Value).toArray s_ 0 0 (mA lo hi)) (F0 m_ 106 ls []) := by
          intro w18_ hw_
          have hd := wt_rs_l hw_ hq20
          clear hL19 hq20
          intro H locs ls hW hS hl
          refine lv_iconst (pc := 106) (v := -1) hx hb dX4_needed_106 (by decide) ?_
          exact mr_iret hx hb hr rfl hlocks (wt_p1 hd) (wt_p2 hd) hW hK hS dX4_needed_107
        have hI26 : ∀ (k25 : Nat) (v17 : Int32 × Int32 × MSt), wt_wh (bX4_needed_1 a0 a1) k25 v17 = some w18 → ∀ (H : Heap) (locs : List Loc) (ls : Array Slot), mW X v17.2.2 H → va_S (mA lo hi) s_.heap H locs → lv_has ls 5 [(0, .ref X.1.1), (1, .int a0), (2, .int a1), (3, .int v17.1), (4, .int v17.2.1)] → W p_ l e_ (headSpec (ws_ yX4_needed cX4_needed 5 (some .int)) ({ frames := 5, cells := 0, slots := 0, locals := 122 })).room s_ m_ ([.ref X.1.1, .int a0, .int a1] : List Value).toArray below_ meth_ c_ H locs 0 0 (MQ below_ (mQi X out_.1 out_.2 (mA lo hi)) ([.ref X.1.1, .int a0, .int a1] : List Value).toArray s_ 0 0 (mA lo hi)) (F0 m_ 50 ls []) := by
          intro k25
          induction k25 with
          | zero => intro v17 hd; exact absurd hd wt_wh_z
          | succ k25 ih23 =>
            intro v17 hd
            intro H locs ls hW hS hl
            obtain ⟨r24, hd, hk22⟩ := wt_wh_o hd
            unfold bX4_needed_1 at hd
            refine lv_iload (pc := 50) hx hb dX4_needed_50 (lv_at hl 4 rfl) ?_
            refine lv_aload_n (pc := 52) hx hb dX4_needed_52 rfl (lv_at hl 0 rfl) ?_
            refine mr_get (pc := 53) (k := 25) (v := .ref (X.1.2.1 25)) hx hb hts hown hK hW (by decide) rfl q1554 dX4_needed_53 ?_
            refine lv_iload_n (pc := 56) hx hb dX4_needed_56 rfl (lv_at hl 1 rfl) ?_
            obtain ⟨h27, hd⟩ := wt_ck_o hd
            refine mr_ald (pc := 57) (k := 25) hx hb hK hW rfl h27 dX4_needed_57 ?_
            refine lv_icmp_ge (pc := 58) (tgt := 106) hx hb dX4_needed_58 (by decide) (fun c28 => ?_) (fun c28 => ?_)
            · have hd := wt_it hd c28
              exact hX21 v17.2.2 (wt_exit hd hk22) _ _ _ hW hS (lv_sub hl [] rfl)
            · have hd := wt_if hd c28
              refine lv_aload_n (pc := 61) hx hb dX4_needed_61 rfl (lv_at hl 0 rfl) ?_
              refine lv_iload (pc := 62) hx hb dX4_needed_62 (lv_at hl 4 rfl) ?_
              obtain ⟨σ29, eσ29, hd⟩ := wt_lt_o hd
              refine mr_put (pc := 64) (k := 41) hx hb hts hown hK hW hJ hS (by decide) rfl eσ29 q1570 dX4_needed_64 (fun H locs hW hS => ?_)
              refine lv_aload_n (pc := 67) hx hb dX4_needed_67 rfl (lv_at hl 0 rfl) ?_
              refine lv_iconst (pc := 68) (v := 0) hx hb dX4_needed_68 (by decide) ?_
              refine lv_iload_n (pc := 69) hx hb dX4_needed_69 rfl (lv_at hl 1 rfl) ?_
              refine lv_iconst (pc := 70) (v := -1) hx hb dX4_needed_70 (by decide) ?_
              obtain ⟨w30, hc31, hd⟩ := wt_bd_o hd
              refine kX4_numbers (pc := 71) hx hb hml hown hts hK hJ hW hS hc31 hl.1 (Nat.le_of_ble_eq_true rfl) ⟨Nat.le_of_ble_eq_true rfl, Nat.le_of_ble_eq_true rfl⟩ ⟨Nat.le_refl _, Nat.le_refl _⟩ dX4_needed_71 (fun H locs hW hS => ?_)
              refine lv_aload_n (pc := 74) hx hb dX4_needed_74 rfl (lv_at hl 0 rfl) ?_
              obtain ⟨w32, hc33, hd⟩ := wt_bd_o hd
              refine kX4_plain (pc := 75) hx hb hml hown hts hK hJ hW hS hc33 hl.1 (Nat.le_of_ble_eq_true rfl) ⟨Nat.le_of_ble_eq_true rfl, Nat.le_of_ble_eq_true rfl⟩ ⟨Nat.le_refl _, Nat.le_refl _⟩ dX4_needed_75 (fun H locs hW hS => ?_)
              refine lv_aload_n (pc := 78) hx hb dX4_needed_78 rfl (lv_at hl 0 rfl) ?_
              refine lv_iconst (pc := 79) (v := 0) hx hb dX4_needed_79 (by decide) ?_
              obtain ⟨w34, hc35, hd⟩ := wt_bd_o hd
              refine kX4_isNothing (pc := 80) hx hb hml hown hts hK hJ hW hS hc35 hl.1 (Nat.le_of_ble_eq_true rfl) ⟨Nat.le_of_ble_eq_true rfl, Nat.le_of_ble_eq_true rfl⟩ ⟨Nat.le_refl _, Nat.le_refl _⟩ dX4_needed_80 (fun H locs hW hS => ?_)
              refine lv_if_ne (pc := 83) (tgt := 89) hx hb dX4_needed_83 (by decide) (fun c36 => ?_) (fun c36 => ?_)
              · have hd := wt_if hd c36
                refine lv_iload_n (pc := 89) hx hb dX4_needed_89 rfl (lv_at hl 3 rfl) ?_
                refine lv_iload_n (pc := 90) hx hb dX4_needed_90 rfl (lv_at hl 2 rfl) ?_
                refine lv_icmp_ne (pc := 91) (tgt := 97) hx hb dX4_needed_91 (by decide) (fun c37 => ?_) (fun c37 => ?_)
                · have hd := wt_if hd c37
                  obtain ⟨n38, en38, hd⟩ := wt_lt_o hd
                  refine lv_iinc (pc := 97) (k := 3) (v := n38) (lv' := [(3, .int n38), (0, .ref X.1.1), (1, .int a0), (2, .int a1), (4, .int v17.2.1)]) hx hb dX4_needed_97 hl rfl en38.symm (by decide) rfl (fun ls hl => ?_)
                  obtain ⟨n39, en39, hd⟩ := wt_lt_o hd
                  refine lv_iinc (pc := 100) (k := 4) (v := n39) (lv' := [(4, .int n39), (3, .int n38), (0, .ref X.1.1), (1, .int a0), (2, .int a1)]) hx hb dX4_needed_100 hl rfl en39.symm (by decide) rfl (fun ls hl => ?_)
                  refine lv_goto (pc := 103) (tgt := 50) hx hb dX4_needed_103 (by decide) ?_
                  exact ih23 _ (wt_again hd hk22) _ _ _ hW hS (lv_sub hl [2, 3, 4, 1, 0] rfl)
                · have hd := wt_it hd c37
                  refine lv_iload (pc := 94) hx hb dX4_needed_94 (lv_at hl 4 rfl) ?_
                  have hd := wt_rs_r (wt_exit hd hk22) hq20
                  exact mr_iret hx hb hr rfl hlocks (wt_p1 hd) (wt_p2 hd) hW hK hS dX4_needed_96
              · have hd := wt_it hd c36
                refine lv_goto (pc := 86) (tgt := 100) hx hb dX4_needed_86 (by decide) ?_
                obtain ⟨n40, en40, hd⟩ := wt_lt_o hd
                refine lv_iinc (pc := 100) (k := 4) (v := n40) (lv' := [(4, .int n40), (0, .ref X.1.1), (1, .int a0), (2, .int a1), (3, .int v17.1)]) hx hb dX4_needed_100 hl rfl en40.symm (by decide) rfl (fun ls hl => ?_)
                refine lv_goto (pc := 103) (tgt := 50) hx hb dX4_needed_103 (by decide) ?_
                exact ih23 _ (wt_again hd hk22) _ _ _ hW hS (lv_sub hl [1, 2, 3, 4, 0] rfl)
        obtain ⟨k25, hL19⟩ := wt_whC_o hL19
        exact hI26 k25 _ hL19 _ _ _ hW hS (lv_sub hl [2, 3, 4, 1, 0] rfl)
      · have hd := wt_if hd c16
        refine lv_iconst (pc := 43) (v := -1) hx hb dX4_needed_43 (by decide) ?_
        exact mr_iret hx hb hr rfl hlocks (wt_p1 hd) (wt_p2 hd) hW hK hS dX4_needed_44
    · have hd := wt_if hd c11
      refine lv_iconst (pc := 26) (v := 0) hx hb dX4_needed_26 (by decide) ?_
      exact mr_iret hx hb hr rfl hlocks (wt_p1 hd) (wt_p2 hd) hW hK hS dX4_needed_27
  have hd := hj5
  refine lv_if_ne (pc := 11) (tgt := 18) hx hb dX4_needed_11 (by decide) (fun c8 => ?_) (fun c8 => ?_)
  · have hd := wt_if hd c8
    refine lv_iconst (pc := 18) (v := 0) hx hb dX4_needed_18 (by decide) ?_
    exact hX7 (0 : Int32) (Option.some.inj hd) _ _ _ hW hS hl
  · have hd := wt_it hd c8
    refine lv_iconst (pc := 14) (v := 1) hx hb dX4_needed_14 (by decide) ?_
    refine lv_goto (pc := 15) (tgt := 19) hx hb dX4_needed_15 (by decide) ?_
    exact hX7 (1 : Int32) (Option.some.inj hd) _ _ _ hW hS hl
noncomputable def dX4_byWay (σ : MSt) (a0 : Int32) (a1 : Int32) (a2 : Int32) (a3 : Int32) (a4 : Int32) (a5 : Int32) : Option (Int32 × MSt) :=
  wt_lt (m_sF σ 0 (0 : Int32)) fun σ1 => wt_bd (dX4_isStory σ1 a0) fun w2 => wt_bd (if w2 = 0 then (some (1 : Int32)) else (some (0 : Int32))) fun w4 => wt_bd (dX4_bad σ1 w4 (1 : Int32)) fun w9 => if w9.1 = 0 then (wt_bd (dX4_badPlace w9.2 a1 a4 a5 (2 : Int32)) fun w12 => if w12.1 = 0 then (wt_bd (dX4_in a2 (0 : Int32) (9 : Int32)) fun w15 => wt_bd (if w15 = 0 then (some (.inl ())) else (wt_bd (dX4_in a3 (0 : Int32) (9 : Int32)) fun w22 => if w22 = 0 then (some (.inl ())) else (if a1 = a2 then (some (.inl ())) else (if a2 = a3 then (some (.inl ())) else (if a1 = a3 then (some (.inl ())) else (wt_bd (dX4_bad w12.2 (0 : Int32) (2 : Int32)) fun w28 => if w28.1 = 0 then (wt_lt (m_sF w28.2 45 a1) fun σ31 => wt_lt (m_sF σ31 46 a2) fun σ32 => wt_lt (m_sF σ32 47 a3) fun σ33 => wt_bd (dX4_runs σ33 a0 a5) fun w34 => wt_bd (dX4_plain w34) fun w36 => wt_ck (vp_in a2 10) <| wt_ck (vp_in a4 10) <| some (.inr ((w36.2.2 39 (a2.toNatClampNeg) a4.toNatClampNeg), w36))) else (some (.inr ((0 : Int32), w28.2))))))))) fun w17 => wt_rs w17 (fun w17 => wt_bd (dX4_bad w12.2 (1 : Int32) (2 : Int32)) fun w40 => if w40.1 = 0 then (wt_lt (m_sF w40.2 45 a1) fun σ43 => wt_lt (m_sF σ43 46 a2) fun σ44 => wt_lt (m_sF σ44 47 a3) fun σ45 => wt_bd (dX4_runs σ45 a0 a5) fun w46 => wt_bd (dX4_plain w46) fun w48 => wt_ck (vp_in a2 10) <| wt_ck (vp_in a4 10) <| some ((w48.2.2 39 (a2.toNatClampNeg) a4.toNatClampNeg), w48)) else (some ((0 : Int32), w40.2))) (fun z_ => some z_)) else (some ((0 : Int32), w12.2))) else (some ((0 : Int32), w9.2))
set_option maxHeartbeats 4000000 in
theorem wX4_byWay (l : Launch) {X : MPar} {lo hi : Nat} (hJ : mJ X lo hi) {σ : MSt} {a0 : Int32} {a1 : Int32} {a2 : Int32} {a3 : Int32} {a4 : Int32} {a5 : Int32} {out_ : Int32 × MSt} (hd : dX4_byWay σ a0 a1 a2 a3 a4 a5 = some out_) : Met l yX4_byWay (ws_ yX4_byWay cX4_byWay 7 (some .int)) ({ frames := 4, cells := 0, slots := 0, locals := 98 }) (mP X σ [.ref X.1.1, .int a0, .int a1, .int a2, .int a3, .int a4, .int a5]) (mQi X out_.1 out_.2 (mA lo hi)) 0 0 (mA lo hi) := by
  refine Met.ofW (cc := cX4_byWay) (maxL := 7) (ret := (some .int)) (by decide) rfl ?_
  intro p_ e_ s_ m_ args_ below_ meth_ c_ s₁_ B hml hv
  obtain ⟨rfl, hW, hK⟩ := hv
  have hx := B.exec
  have hb := B.bytes
  have hr := B.returns
  have hts := atoms_spec (ws := (ws_ yX4_byWay cX4_byWay 7 (some .int))) B.pre
  have hts : ∀ w ∈ lw_all, w.before _ s_ = true := fun w h => hts w (List.mem_cons_of_mem _ h)
  have hown : s_.vm.findClass RX4 = some m_.cls := findClass_of_methodNamed B.named
  have hlocks := B.notSynchronized
  have hS : va_S (mA lo hi) s_.heap s_.heap [] := va_S.rf
  have hl := lv_entry ([.ref X.1.1, .int a0, .int a1, .int a2, .int a3, .int a4, .int a5]) (n := 7) (Nat.le_of_ble_eq_true rfl)
  rw [lg_entry_eq]
  generalize (lg_sl ([.ref X.1.1, .int a0, .int a1, .int a2, .int a3, .int a4, .int a5]) ++ List.replicate (7 - (lg_sl ([.ref X.1.1, .int a0, .int a1, .int a2, .int a3, .int a4, .int a5])).length) Slot.unset).toArray = ls at hl ⊢
  have hl : lv_has ls 7 [(0, .ref X.1.1), (1, .int a0), (2, .int a1), (3, .int a2), (4, .int a3), (5, .int a4), (6, .int a5)] := hl
  unfold dX4_byWay at hd
  refine lv_aload_n (pc := 0) hx hb dX4_byWay_0 rfl (lv_at hl 0 rfl) ?_
  refine lv_iconst (pc := 1) (v := 0) hx hb dX4_byWay_1 (by decide) ?_
  obtain ⟨σ1, eσ1, hd⟩ := wt_lt_o hd
  refine mr_put (pc := 2) (k := 0) hx hb hts hown hK hW hJ hS (by decide) rfl eσ1 q1529 dX4_byWay_2 (fun H locs hW hS => ?_)
  refine lv_aload_n (pc := 5) hx hb dX4_byWay_5 rfl (lv_at hl 0 rfl) ?_
  refine lv_aload_n (pc := 6) hx hb dX4_byWay_6 rfl (lv_at hl 0 rfl) ?_
  refine lv_iload_n (pc := 7) hx hb dX4_byWay_7 rfl (lv_at hl 1 rfl) ?_
  obtain ⟨w2, hc3, hd⟩ := wt_bd_o hd
  refine kX4_isStory (pc := 8) hx hb hml hown hts hK hJ hW hS hc3 hl.1 (Nat.le_of_ble_eq_true rfl) ⟨Nat.le_of_ble_eq_true rfl, Nat.le_of_ble_eq_true rfl⟩ ⟨Nat.le_refl _, Nat.le_refl _⟩ dX4_byWay_8 (fun H locs hW hS => ?_)
  obtain ⟨w4, hj5, hq6⟩ := wt_bd_o hd
  have hX7 : ∀ w4_ : Int32, w4_ = w4 → ∀ (H : Heap) (locs : List Loc) (ls : Array Slot), mW X σ1 H → va_S (mA lo hi) s_.heap H locs → lv_has ls 7 [(0, .ref X.1.1), (1, .int a0), (2, .int a1), (3, .int a2), (4, .int a3), (5, .int a4), (6, .int a5)] → W p_ l e_ (headSpec (ws_ yX4_byWay cX4_byWay 7 (some .int)) ({ frames := 4, cells := 0, slots := 0, locals := 98 })).room s_ m_ ([.ref X.1.1, .int a0, .int a1, .int a2, .int a3, .int a4, .int a5] : List Value).toArray below_ meth_ c_ H locs 0 0 (MQ below_ (mQi X out_.1 out_.2 (mA lo hi)) ([.ref X.1.1, .int a0, .int a1, .int a2, .int a3, .int a4, .int a5] : List Value).toArray s_ 0 0 (mA lo hi)) (F0 m_ 19 ls [.int w4_, .ref X.1.1]) := by
    intro w4_ hw_
    have hd := hq6
    subst hw_
    clear hj5 hq6
    intro H locs ls hW hS hl
    refine lv_iconst (pc := 19) (v := 1) hx hb dX4_byWay_19 (by decide) ?_
    obtain ⟨w9, hc10, hd⟩ := wt_bd_o hd
    refine kX4_bad (pc := 20) hx hb hml hown hts hK hJ hW hS hc10 hl.1 (Nat.le_of_ble_eq_true rfl) ⟨Nat.le_of_ble_eq_true rfl, Nat.le_of_ble_eq_true rfl⟩ ⟨Nat.le_refl _, Nat.le_refl _⟩ dX4_byWay_20 (fun H locs hW hS => ?_)
    refine lv_if_ne (pc := 23) (tgt := 90) hx hb dX4_byWay_23 (by decide) (fun c11 => ?_) (fun c11 => ?_)
    · have hd := wt_if hd c11
      refine lv_iconst (pc := 90) (v := 0) hx hb dX4_byWay_90 (by decide) ?_
      exact mr_iret hx hb hr rfl hlocks (wt_p1 hd) (wt_p2 hd) hW hK hS dX4_byWay_91
    · have hd := wt_it hd c11
      refine lv_aload_n (pc := 26) hx hb dX4_byWay_26 rfl (lv_at hl 0 rfl) ?_
      refine lv_iload_n (pc := 27) hx hb dX4_byWay_27 rfl (lv_at hl 2 rfl) ?_
      refine lv_iload (pc := 28) hx hb dX4_byWay_28 (lv_at hl 5 rfl) ?_
      refine lv_iload (pc := 30) hx hb dX4_byWay_30 (lv_at hl 6 rfl) ?_
      refine lv_iconst (pc := 32) (v := 2) hx hb dX4_byWay_32 (by decide) ?_
      obtain ⟨w12, hc13, hd⟩ := wt_bd_o hd
      refine kX4_badPlace (pc := 33) hx hb hml hown hts hK hJ hW hS hc13 hl.1 (Nat.le_of_ble_eq_true rfl) ⟨Nat.le_of_ble_eq_true rfl, Nat.le_of_ble_eq_true rfl⟩ ⟨Nat.le_refl _, Nat.le_refl _⟩ dX4_byWay_33 (fun H locs hW hS => ?_)
      refine lv_if_ne (pc := 36) (tgt := 90) hx hb dX4_byWay_36 (by decide) (fun c14 => ?_) (fun c14 => ?_)
      · have hd := wt_if hd c14
        refine lv_iconst (pc := 90) (v := 0) hx hb dX4_byWay_90 (by decide) ?_
        exact mr_iret hx hb hr rfl hlocks (wt_p1 hd) (wt_p2 hd) hW hK hS dX4_byWay_91
      · have hd := wt_it hd c14
        refine lv_aload_n (pc := 39) hx hb dX4_byWay_39 rfl (lv_at hl 0 rfl) ?_
        refine lv_iload_n (pc := 40) hx hb dX4_byWay_40 rfl (lv_at hl 3 rfl) ?_
        refine lv_iconst (pc := 41) (v := 0) hx hb dX4_byWay_41 (by decide) ?_
        refine lv_bipush (pc := 42) (v := 9) hx hb dX4_byWay_42 (by decide) ?_
        obtain ⟨w15, hc16, hd⟩ := wt_bd_o hd
        refine kX4_in (pc := 44) hx hb hml hown hts hK hW hS hc16 hl.1 (Nat.le_of_ble_eq_true rfl) ⟨Nat.le_of_ble_eq_true rfl, Nat.le_of_ble_eq_true rfl⟩ ⟨Nat.le_refl _, Nat.le_refl _⟩ dX4_byWay_44 (fun H locs hW hS => ?_)
        obtain ⟨w17, hj18, hq19⟩ := wt_bd_o hd
        have hX20 : ∀ w17_ : Unit, (Sum.inl w17_ : Unit ⊕ _) = w17 → ∀ (H : Heap) (locs : List Loc) (ls : Array Slot), mW X w12.2 H → va_S (mA lo hi) s_.heap H locs → lv_has ls 7 [(0, .ref X.1.1), (1, .int a0), (2, .int a1), (3, .int a2), (4, .int a3), (5, .int a4), (6, .int a5)] → W p_ l e_ (headSpec (ws_ yX4_byWay cX4_byWay 7 (some .int)) ({ frames := 4, cells := 0, slots := 0, locals := 98 })).room s_ m_ ([.ref X.1.1, .int a0, .int a1, .int a2, .int a3, .int a4, .int a5] : List Value).toArray below_ meth_ c_ H locs 0 0 (MQ below_ (mQi X out_.1 out_.2 (mA lo hi)) ([.ref X.1.1, .int a0, .int a1, .int a2, .int a3, .int a4, .int a5] : List Value).toArray s_ 0 0 (mA lo hi)) (F0 m_ 78 ls [.ref X.1.1]) := by
          intro w17_ hw_
          have hd := wt_rs_l hw_ hq19
          clear hj18 hq19
          intro H locs ls hW hS hl
          refine lv_iconst (pc := 78) (v := 1) hx hb dX4_byWay_78 (by decide) ?_
          refine lv_goto (pc := 79) (tgt := 83) hx hb dX4_byWay_79 (by decide) ?_
          refine lv_iconst (pc := 83) (v := 2) hx hb dX4_byWay_83 (by decide) ?_
          obtain ⟨w40, hc41, hd⟩ := wt_bd_o hd
          refine kX4_bad (pc := 84) hx hb hml hown hts hK hJ hW hS hc41 hl.1 (Nat.le_of_ble_eq_true rfl) ⟨Nat.le_of_ble_eq_true rfl, Nat.le_of_ble_eq_true rfl⟩ ⟨Nat.le_refl _, Nat.le_refl _⟩ dX4_byWay_84 (fun H locs hW hS => ?_)
          refine lv_if_eq (pc := 87) (tgt := 92) hx hb dX4_byWay_87 (by decide) (fun c42 => ?_) (fun c42 => ?_)
          · have hd := wt_it hd c42
            refine lv_aload_n (pc := 92) hx hb dX4_byWay_92 rfl (lv_at hl 0 rfl) ?_
            refine lv_iload_n (pc := 93) hx hb dX4_byWay_93 rfl (lv_at hl 2 rfl) ?_
            obtain ⟨σ43, eσ43, hd⟩ := wt_lt_o hd
            refine mr_put (pc := 94) (k := 45) hx hb hts hown hK hW hJ hS (by decide) rfl eσ43 q1574 dX4_byWay_94 (fun H locs hW hS => ?_)
            refine lv_aload_n (pc := 97) hx hb dX4_byWay_97 rfl (lv_at hl 0 rfl) ?_
            refine lv_iload_n (pc := 98) hx hb dX4_byWay_98 rfl (lv_at hl 3 rfl) ?_
            obtain ⟨σ44, eσ44, hd⟩ := wt_lt_o hd
            refine mr_put (pc := 99) (k := 46) hx hb hts hown hK hW hJ hS (by decide) rfl eσ44 q1575 dX4_byWay_99 (fun H locs hW hS => ?_)
            refine lv_aload_n (pc := 102) hx hb dX4_byWay_102 rfl (lv_at hl 0 rfl) ?_
            refine lv_iload (pc := 103) hx hb dX4_byWay_103 (lv_at hl 4 rfl) ?_
            obtain ⟨σ45, eσ45, hd⟩ := wt_lt_o hd
            refine mr_put (pc := 105) (k := 47) hx hb hts hown hK hW hJ hS (by decide) rfl eσ45 q1576 dX4_byWay_105 (fun H locs hW hS => ?_)
            refine lv_aload_n (pc := 108) hx hb dX4_byWay_108 rfl (lv_at hl 0 rfl) ?_
            refine lv_iload_n (pc := 109) hx hb dX4_byWay_109 rfl (lv_at hl 1 rfl) ?_
            refine lv_iload (pc := 110) hx hb dX4_byWay_110 (lv_at hl 6 rfl) ?_
            obtain ⟨w46, hc47, hd⟩ := wt_bd_o hd
            refine kX4_runs (pc := 112) hx hb hml hown hts hK hJ hW hS hc47 hl.1 (Nat.le_of_ble_eq_true rfl) ⟨Nat.le_of_ble_eq_true rfl, Nat.le_of_ble_eq_true rfl⟩ ⟨Nat.le_refl _, Nat.le_refl _⟩ dX4_byWay_112 (fun H locs hW hS => ?_)
            refine lv_aload_n (pc := 115) hx hb dX4_byWay_115 rfl (lv_at hl 0 rfl) ?_
            obtain ⟨w48, hc49, hd⟩ := wt_bd_o hd
            refine kX4_plain (pc := 116) hx hb hml hown hts hK hJ hW hS hc49 hl.1 (Nat.le_of_ble_eq_true rfl) ⟨Nat.le_of_ble_eq_true rfl, Nat.le_of_ble_eq_true rfl⟩ ⟨Nat.le_refl _, Nat.le_refl _⟩ dX4_byWay_116 (fun H locs hW hS => ?_)
            refine lv_aload_n (pc := 119) hx hb dX4_byWay_119 rfl (lv_at hl 0 rfl) ?_
            refine mr_get (pc := 120) (k := 39) (v := .ref (X.1.2.1 39)) hx hb hts hown hK hW (by decide) rfl q1568 dX4_byWay_120 ?_
            refine lv_iload_n (pc := 123) hx hb dX4_byWay_123 rfl (lv_at hl 3 rfl) ?_
            obtain ⟨h50, hd⟩ := wt_ck_o hd
            refine mr_row (pc := 124) (k := 39) hx hb hK hW rfl h50 dX4_byWay_124 ?_
            refine lv_iload (pc := 125) hx hb dX4_byWay_125 (lv_at hl 5 rfl) ?_
            obtain ⟨h51, hd⟩ := wt_ck_o hd
            refine mr_gld (pc := 127) (k := 39) (i := (a2.toNatClampNeg)) hx hb hK hW (vp_lt h50) rfl h51 dX4_byWay_127 ?_
            exact mr_iret hx hb hr rfl hlocks (wt_p1 hd) (wt_p2 hd) hW hK hS dX4_byWay_128
          · have hd := wt_if hd c42
            refine lv_iconst (pc := 90) (v := 0) hx hb dX4_byWay_90 (by decide) ?_
            exact mr_iret hx hb hr rfl hlocks (wt_p1 hd) (wt_p2 hd) hW hK hS dX4_byWay_91
        have hd := hj18
        refine lv_if_eq (pc := 47) (tgt := 78) hx hb dX4_byWay_47 (by decide) (fun c21 => ?_) (fun c21 => ?_)
        · have hd := wt_it hd c21
          exact hX20 () (Option.some.inj hd) _ _ _ hW hS hl
        · have hd := wt_if hd c21
          refine lv_iload (pc := 50) hx hb dX4_byWay_50 (lv_at hl 4 rfl) ?_
          refine lv_iconst (pc := 52) (v := 0) hx hb dX4_byWay_52 (by decide) ?_
          refine lv_bipush (pc := 53) (v := 9) hx hb dX4_byWay_53 (by decide) ?_
          obtain ⟨w22, hc23, hd⟩ := wt_bd_o hd
          refine kX4_in (pc := 55) hx hb hml hown hts hK hW hS hc23 hl.1 (Nat.le_of_ble_eq_true rfl) ⟨Nat.le_of_ble_eq_true rfl, Nat.le_of_ble_eq_true rfl⟩ ⟨Nat.le_refl _, Nat.le_refl _⟩ dX4_byWay_55 (fun H locs hW hS => ?_)
          refine lv_if_eq (pc := 58) (tgt := 78) hx hb dX4_byWay_58 (by decide) (fun c24 => ?_) (fun c24 => ?_)
          · have hd := wt_it hd c24
            exact hX20 () (Option.some.inj hd) _ _ _ hW hS hl
          · have hd := wt_if hd c24
            refine lv_iload_n (pc := 61) hx hb dX4_byWay_61 rfl (lv_at hl 2 rfl) ?_
            refine lv_iload_n (pc := 62) hx hb dX4_byWay_62 rfl (lv_at hl 3 rfl) ?_
            refine lv_icmp_eq (pc := 63) (tgt := 78) hx hb dX4_byWay_63 (by decide) (fun c25 => ?_) (fun c25 => ?_)
            · have hd := wt_it hd c25
              exact hX20 () (Option.some.inj hd) _ _ _ hW hS hl
            · have hd := wt_if hd c25
              refine lv_iload_n (pc := 66) hx hb dX4_byWay_66 rfl (lv_at hl 3 rfl) ?_
              refine lv_iload (pc := 67) hx hb dX4_byWay_67 (lv_at hl 4 rfl) ?_
              refine lv_icmp_eq (pc := 69) (tgt := 78) hx hb dX4_byWay_69 (by decide) (fun c26 => ?_) (fun c26 => ?_)
              · have hd := wt_it hd c26
                exact hX20 () (Option.some.inj hd) _ _ _ hW hS hl
              · have hd := wt_if hd c26
                refine lv_iload_n (pc := 72) hx hb dX4_byWay_72 rfl (lv_at hl 2 rfl) ?_
                refine lv_iload (pc := 73) hx hb dX4_byWay_73 (lv_at hl 4 rfl) ?_
                refine lv_icmp_ne (pc := 75) (tgt := 82) hx hb dX4_byWay_75 (by decide) (fun c27 => ?_) (fun c27 => ?_)
                · have hd := wt_if hd c27
                  refine lv_iconst (pc := 82) (v := 0) hx hb dX4_byWay_82 (by decide) ?_
                  refine lv_iconst (pc := 83) (v := 2) hx hb dX4_byWay_83 (by decide) ?_
                  obtain ⟨w28, hc29, hd⟩ := wt_bd_o hd
                  refine kX4_bad (pc := 84) hx hb hml hown hts hK hJ hW hS hc29 hl.1 (Nat.le_of_ble_eq_true rfl) ⟨Nat.le_of_ble_eq_true rfl, Nat.le_of_ble_eq_true rfl⟩ ⟨Nat.le_refl _, Nat.le_refl _⟩ dX4_byWay_84 (fun H locs hW hS => ?_)
                  refine lv_if_eq (pc := 87) (tgt := 92) hx hb dX4_byWay_87 (by decide) (fun c30 => ?_) (fun c30 => ?_)
                  · have hd := wt_it hd c30
                    refine lv_aload_n (pc := 92) hx hb dX4_byWay_92 rfl (lv_at hl 0 rfl) ?_
                    refine lv_iload_n (pc := 93) hx hb dX4_byWay_93 rfl (lv_at hl 2 rfl) ?_
                    obtain ⟨σ31, eσ31, hd⟩ := wt_lt_o hd
                    refine mr_put (pc := 94) (k := 45) hx hb hts hown hK hW hJ hS (by decide) rfl eσ31 q1574 dX4_byWay_94 (fun H locs hW hS => ?_)
                    refine lv_aload_n (pc := 97) hx hb dX4_byWay_97 rfl (lv_at hl 0 rfl) ?_
                    refine lv_iload_n (pc := 98) hx hb dX4_byWay_98 rfl (lv_at hl 3 rfl) ?_
                    obtain ⟨σ32, eσ32, hd⟩ := wt_lt_o hd
                    refine mr_put (pc := 99) (k := 46) hx hb hts hown hK hW hJ hS (by decide) rfl eσ32 q1575 dX4_byWay_99 (fun H locs hW hS => ?_)
                    refine lv_aload_n (pc := 102) hx hb dX4_byWay_102 rfl (lv_at hl 0 rfl) ?_
                    refine lv_iload (pc := 103) hx hb dX4_byWay_103 (lv_at hl 4 rfl) ?_
                    obtain ⟨σ33, eσ33, hd⟩ := wt_lt_o hd
                    refine mr_put (pc := 105) (k := 47) hx hb hts hown hK hW hJ hS (by decide) rfl eσ33 q1576 dX4_byWay_105 (fun H locs hW hS => ?_)
                    refine lv_aload_n (pc := 108) hx hb dX4_byWay_108 rfl (lv_at hl 0 rfl) ?_
                    refine lv_iload_n (pc := 109) hx hb dX4_byWay_109 rfl (lv_at hl 1 rfl) ?_
                    refine lv_iload (pc := 110) hx hb dX4_byWay_110 (lv_at hl 6 rfl) ?_
                    obtain ⟨w34, hc35, hd⟩ := wt_bd_o hd
                    refine kX4_runs (pc := 112) hx hb hml hown hts hK hJ hW hS hc35 hl.1 (Nat.le_of_ble_eq_true rfl) ⟨Nat.le_of_ble_eq_true rfl, Nat.le_of_ble_eq_true rfl⟩ ⟨Nat.le_refl _, Nat.le_refl _⟩ dX4_byWay_112 (fun H locs hW hS => ?_)
                    refine lv_aload_n (pc := 115) hx hb dX4_byWay_115 rfl (lv_at hl 0 rfl) ?_
                    obtain ⟨w36, hc37, hd⟩ := wt_bd_o hd
                    refine kX4_plain (pc := 116) hx hb hml hown hts hK hJ hW hS hc37 hl.1 (Nat.le_of_ble_eq_true rfl) ⟨Nat.le_of_ble_eq_true rfl, Nat.le_of_ble_eq_true rfl⟩ ⟨Nat.le_refl _, Nat.le_refl _⟩ dX4_byWay_116 (fun H locs hW hS => ?_)
                    refine lv_aload_n (pc := 119) hx hb dX4_byWay_119 rfl (lv_at hl 0 rfl) ?_
                    refine mr_get (pc := 120) (k := 39) (v := .ref (X.1.2.1 39)) hx hb hts hown hK hW (by decide) rfl q1568 dX4_byWay_120 ?_
                    refine lv_iload_n (pc := 123) hx hb dX4_byWay_123 rfl (lv_at hl 3 rfl) ?_
                    obtain ⟨h38, hd⟩ := wt_ck_o hd
                    refine mr_row (pc := 124) (k := 39) hx hb hK hW rfl h38 dX4_byWay_124 ?_
                    refine lv_iload (pc := 125) hx hb dX4_byWay_125 (lv_at hl 5 rfl) ?_
                    obtain ⟨h39, hd⟩ := wt_ck_o hd
                    refine mr_gld (pc := 127) (k := 39) (i := (a2.toNatClampNeg)) hx hb hK hW (vp_lt h38) rfl h39 dX4_byWay_127 ?_
                    have hd := wt_rs_r (Option.some.inj hd) hq19
                    exact mr_iret hx hb hr rfl hlocks (wt_p1 hd) (wt_p2 hd) hW hK hS dX4_byWay_128
                  · have hd := wt_if hd c30
                    refine lv_iconst (pc := 90) (v := 0) hx hb dX4_byWay_90 (by decide) ?_
                    have hd := wt_rs_r (Option.some.inj hd) hq19
                    exact mr_iret hx hb hr rfl hlocks (wt_p1 hd) (wt_p2 hd) hW hK hS dX4_byWay_91
                · have hd := wt_it hd c27
                  exact hX20 () (Option.some.inj hd) _ _ _ hW hS hl
  have hd := hj5
  refine lv_if_ne (pc := 11) (tgt := 18) hx hb dX4_byWay_11 (by decide) (fun c8 => ?_) (fun c8 => ?_)
  · have hd := wt_if hd c8
    refine lv_iconst (pc := 18) (v := 0) hx hb dX4_byWay_18 (by decide) ?_
    exact hX7 (0 : Int32) (Option.some.inj hd) _ _ _ hW hS hl
  · have hd := wt_it hd c8
    refine lv_iconst (pc := 14) (v := 1) hx hb dX4_byWay_14 (by decide) ?_
    refine lv_goto (pc := 15) (tgt := 19) hx hb dX4_byWay_15 (by decide) ?_
    exact hX7 (1 : Int32) (Option.some.inj hd) _ _ _ hW hS hl
noncomputable def dX4_bench (σ : MSt) (a0 : Int32) (a1 : Int32) (a2 : Int32) (a3 : Int32) : Option (Int32 × MSt) :=
  wt_lt (m_sF σ 0 (0 : Int32)) fun σ1 => wt_bd (dX4_isStory σ1 a0) fun w2 => wt_bd (if w2 = 0 then (some (1 : Int32)) else (some (0 : Int32))) fun w4 => wt_bd (dX4_bad σ1 w4 (1 : Int32)) fun w9 => if w9.1 = 0 then (wt_bd (dX4_badPlace w9.2 a1 (0 : Int32) a3 (2 : Int32)) fun w12 => if w12.1 = 0 then (wt_bd (dX4_in a2 (0 : Int32) (9 : Int32)) fun w15 => wt_bd (if w15 = 0 then (some (.inl ())) else (if a1 = a2 then (some (.inl ())) else (wt_bd (dX4_bad w12.2 (0 : Int32) (2 : Int32)) fun w23 => if w23.1 = 0 then (wt_lt (m_sF w23.2 42 a1) fun σ26 => wt_lt (m_sF σ26 43 a2) fun σ27 => wt_lt (m_sF σ27 44 a3) fun σ28 => wt_bd (dX4_numbers σ28 (0 : Int32) a0 (-1 : Int32)) fun w29 => wt_lt ((w29.1 49)) fun n31 => wt_bd (dX4_plain w29) fun w32 => wt_bd (dX4_numbers w32 (1 : Int32) a0 (-1 : Int32)) fun w34 => wt_bd (dX4_levels w34 n31 (w34.1 49)) fun w36 => wt_bd (dX4_worthNow w36) fun w38 => some (.inr (w38.1, w38.2))) else (some (.inr ((0 : Int32), w23.2)))))) fun w17 => wt_rs w17 (fun w17 => wt_bd (dX4_bad w12.2 (1 : Int32) (2 : Int32)) fun w40 => if w40.1 = 0 then (wt_lt (m_sF w40.2 42 a1) fun σ43 => wt_lt (m_sF σ43 43 a2) fun σ44 => wt_lt (m_sF σ44 44 a3) fun σ45 => wt_bd (dX4_numbers σ45 (0 : Int32) a0 (-1 : Int32)) fun w46 => wt_lt ((w46.1 49)) fun n48 => wt_bd (dX4_plain w46) fun w49 => wt_bd (dX4_numbers w49 (1 : Int32) a0 (-1 : Int32)) fun w51 => wt_bd (dX4_levels w51 n48 (w51.1 49)) fun w53 => wt_bd (dX4_worthNow w53) fun w55 => some (w55.1, w55.2)) else (some ((0 : Int32), w40.2))) (fun z_ => some z_)) else (some ((0 : Int32), w12.2))) else (some ((0 : Int32), w9.2))
set_option maxHeartbeats 4000000 in
theorem wX4_bench (l : Launch) {X : MPar} {lo hi : Nat} (hJ : mJ X lo hi) {σ : MSt} {a0 : Int32} {a1 : Int32} {a2 : Int32} {a3 : Int32} {out_ : Int32 × MSt} (hd : dX4_bench σ a0 a1 a2 a3 = some out_) : Met l yX4_bench (ws_ yX4_bench cX4_bench 6 (some .int)) ({ frames := 5, cells := 0, slots := 0, locals := 122 }) (mP X σ [.ref X.1.1, .int a0, .int a1, .int a2, .int a3]) (mQi X out_.1 out_.2 (mA lo hi)) 0 0 (mA lo hi) := by
  refine Met.ofW (cc := cX4_bench) (maxL := 6) (ret := (some .int)) (by decide) rfl ?_
  intro p_ e_ s_ m_ args_ below_ meth_ c_ s₁_ B hml hv
  obtain ⟨rfl, hW, hK⟩ := hv
  have hx := B.exec
  have hb := B.bytes
  have hr := B.returns
  have hts := atoms_spec (ws := (ws_ yX4_bench cX4_bench 6 (some .int))) B.pre
  have hts : ∀ w ∈ lw_all, w.before _ s_ = true := fun w h => hts w (List.mem_cons_of_mem _ h)
  have hown : s_.vm.findClass RX4 = some m_.cls := findClass_of_methodNamed B.named
  have hlocks := B.notSynchronized
  have hS : va_S (mA lo hi) s_.heap s_.heap [] := va_S.rf
  have hl := lv_entry ([.ref X.1.1, .int a0, .int a1, .int a2, .int a3]) (n := 6) (Nat.le_of_ble_eq_true rfl)
  rw [lg_entry_eq]
  generalize (lg_sl ([.ref X.1.1, .int a0, .int a1, .int a2, .int a3]) ++ List.replicate (6 - (lg_sl ([.ref X.1.1, .int a0, .int a1, .int a2, .int a3])).length) Slot.unset).toArray = ls at hl ⊢
  have hl : lv_has ls 6 [(0, .ref X.1.1), (1, .int a0), (2, .int a1), (3, .int a2), (4, .int a3)] := hl
  unfold dX4_bench at hd
  refine lv_aload_n (pc := 0) hx hb dX4_bench_0 rfl (lv_at hl 0 rfl) ?_
  refine lv_iconst (pc := 1) (v := 0) hx hb dX4_bench_1 (by decide) ?_
  obtain ⟨σ1, eσ1, hd⟩ := wt_lt_o hd
  refine mr_put (pc := 2) (k := 0) hx hb hts hown hK hW hJ hS (by decide) rfl eσ1 q1529 dX4_bench_2 (fun H locs hW hS => ?_)
  refine lv_aload_n (pc := 5) hx hb dX4_bench_5 rfl (lv_at hl 0 rfl) ?_
  refine lv_aload_n (pc := 6) hx hb dX4_bench_6 rfl (lv_at hl 0 rfl) ?_
  refine lv_iload_n (pc := 7) hx hb dX4_bench_7 rfl (lv_at hl 1 rfl) ?_
  obtain ⟨w2, hc3, hd⟩ := wt_bd_o hd
  refine kX4_isStory (pc := 8) hx hb hml hown hts hK hJ hW hS hc3 hl.1 (Nat.le_of_ble_eq_true rfl) ⟨Nat.le_of_ble_eq_true rfl, Nat.le_of_ble_eq_true rfl⟩ ⟨Nat.le_refl _, Nat.le_refl _⟩ dX4_bench_8 (fun H locs hW hS => ?_)
  obtain ⟨w4, hj5, hq6⟩ := wt_bd_o hd
  have hX7 : ∀ w4_ : Int32, w4_ = w4 → ∀ (H : Heap) (locs : List Loc) (ls : Array Slot), mW X σ1 H → va_S (mA lo hi) s_.heap H locs → lv_has ls 6 [(0, .ref X.1.1), (1, .int a0), (2, .int a1), (3, .int a2), (4, .int a3)] → W p_ l e_ (headSpec (ws_ yX4_bench cX4_bench 6 (some .int)) ({ frames := 5, cells := 0, slots := 0, locals := 122 })).room s_ m_ ([.ref X.1.1, .int a0, .int a1, .int a2, .int a3] : List Value).toArray below_ meth_ c_ H locs 0 0 (MQ below_ (mQi X out_.1 out_.2 (mA lo hi)) ([.ref X.1.1, .int a0, .int a1, .int a2, .int a3] : List Value).toArray s_ 0 0 (mA lo hi)) (F0 m_ 19 ls [.int w4_, .ref X.1.1]) := by
    intro w4_ hw_
    have hd := hq6
    subst hw_
    clear hj5 hq6
    intro H locs ls hW hS hl
    refine lv_iconst (pc := 19) (v := 1) hx hb dX4_bench_19 (by decide) ?_
    obtain ⟨w9, hc10, hd⟩ := wt_bd_o hd
    refine kX4_bad (pc := 20) hx hb hml hown hts hK hJ hW hS hc10 hl.1 (Nat.le_of_ble_eq_true rfl) ⟨Nat.le_of_ble_eq_true rfl, Nat.le_of_ble_eq_true rfl⟩ ⟨Nat.le_refl _, Nat.le_refl _⟩ dX4_bench_20 (fun H locs hW hS => ?_)
    refine lv_if_ne (pc := 23) (tgt := 66) hx hb dX4_bench_23 (by decide) (fun c11 => ?_) (fun c11 => ?_)
    · have hd := wt_if hd c11
      refine lv_iconst (pc := 66) (v := 0) hx hb dX4_bench_66 (by decide) ?_
      exact mr_iret hx hb hr rfl hlocks (wt_p1 hd) (wt_p2 hd) hW hK hS dX4_bench_67
    · have hd := wt_it hd c11
      refine lv_aload_n (pc := 26) hx hb dX4_bench_26 rfl (lv_at hl 0 rfl) ?_
      refine lv_iload_n (pc := 27) hx hb dX4_bench_27 rfl (lv_at hl 2 rfl) ?_
      refine lv_iconst (pc := 28) (v := 0) hx hb dX4_bench_28 (by decide) ?_
      refine lv_iload (pc := 29) hx hb dX4_bench_29 (lv_at hl 4 rfl) ?_
      refine lv_iconst (pc := 31) (v := 2) hx hb dX4_bench_31 (by decide) ?_
      obtain ⟨w12, hc13, hd⟩ := wt_bd_o hd
      refine kX4_badPlace (pc := 32) hx hb hml hown hts hK hJ hW hS hc13 hl.1 (Nat.le_of_ble_eq_true rfl) ⟨Nat.le_of_ble_eq_true rfl, Nat.le_of_ble_eq_true rfl⟩ ⟨Nat.le_refl _, Nat.le_refl _⟩ dX4_bench_32 (fun H locs hW hS => ?_)
      refine lv_if_ne (pc := 35) (tgt := 66) hx hb dX4_bench_35 (by decide) (fun c14 => ?_) (fun c14 => ?_)
      · have hd := wt_if hd c14
        refine lv_iconst (pc := 66) (v := 0) hx hb dX4_bench_66 (by decide) ?_
        exact mr_iret hx hb hr rfl hlocks (wt_p1 hd) (wt_p2 hd) hW hK hS dX4_bench_67
      · have hd := wt_it hd c14
        refine lv_aload_n (pc := 38) hx hb dX4_bench_38 rfl (lv_at hl 0 rfl) ?_
        refine lv_iload_n (pc := 39) hx hb dX4_bench_39 rfl (lv_at hl 3 rfl) ?_
        refine lv_iconst (pc := 40) (v := 0) hx hb dX4_bench_40 (by decide) ?_
        refine lv_bipush (pc := 41) (v := 9) hx hb dX4_bench_41 (by decide) ?_
        obtain ⟨w15, hc16, hd⟩ := wt_bd_o hd
        refine kX4_in (pc := 43) hx hb hml hown hts hK hW hS hc16 hl.1 (Nat.le_of_ble_eq_true rfl) ⟨Nat.le_of_ble_eq_true rfl, Nat.le_of_ble_eq_true rfl⟩ ⟨Nat.le_refl _, Nat.le_refl _⟩ dX4_bench_43 (fun H locs hW hS => ?_)
        obtain ⟨w17, hj18, hq19⟩ := wt_bd_o hd
        have hX20 : ∀ w17_ : Unit, (Sum.inl w17_ : Unit ⊕ _) = w17 → ∀ (H : Heap) (locs : List Loc) (ls : Array Slot), mW X w12.2 H → va_S (mA lo hi) s_.heap H locs → lv_has ls 6 [(0, .ref X.1.1), (1, .int a0), (2, .int a1), (3, .int a2), (4, .int a3)] → W p_ l e_ (headSpec (ws_ yX4_bench cX4_bench 6 (some .int)) ({ frames := 5, cells := 0, slots := 0, locals := 122 })).room s_ m_ ([.ref X.1.1, .int a0, .int a1, .int a2, .int a3] : List Value).toArray below_ meth_ c_ H locs 0 0 (MQ below_ (mQi X out_.1 out_.2 (mA lo hi)) ([.ref X.1.1, .int a0, .int a1, .int a2, .int a3] : List Value).toArray s_ 0 0 (mA lo hi)) (F0 m_ 54 ls [.ref X.1.1]) := by
          intro w17_ hw_
          have hd := wt_rs_l hw_ hq19
          clear hj18 hq19
          intro H locs ls hW hS hl
          refine lv_iconst (pc := 54) (v := 1) hx hb dX4_bench_54 (by decide) ?_
          refine lv_goto (pc := 55) (tgt := 59) hx hb dX4_bench_55 (by decide) ?_
          refine lv_iconst (pc := 59) (v := 2) hx hb dX4_bench_59 (by decide) ?_
          obtain ⟨w40, hc41, hd⟩ := wt_bd_o hd
          refine kX4_bad (pc := 60) hx hb hml hown hts hK hJ hW hS hc41 hl.1 (Nat.le_of_ble_eq_true rfl) ⟨Nat.le_of_ble_eq_true rfl, Nat.le_of_ble_eq_true rfl⟩ ⟨Nat.le_refl _, Nat.le_refl _⟩ dX4_bench_60 (fun H locs hW hS => ?_)
          refine lv_if_eq (pc := 63) (tgt := 68) hx hb dX4_bench_63 (by decide) (fun c42 => ?_) (fun c42 => ?_)
          · have hd := wt_it hd c42
            refine lv_aload_n (pc := 68) hx hb dX4_bench_68 rfl (lv_at hl 0 rfl) ?_
            refine lv_iload_n (pc := 69) hx hb dX4_bench_69 rfl (lv_at hl 2 rfl) ?_
            obtain ⟨σ43, eσ43, hd⟩ := wt_lt_o hd
            refine mr_put (pc := 70) (k := 42) hx hb hts hown hK hW hJ hS (by decide) rfl eσ43 q1571 dX4_bench_70 (fun H locs hW hS => ?_)
            refine lv_aload_n (pc := 73) hx hb dX4_bench_73 rfl (lv_at hl 0 rfl) ?_
            refine lv_iload_n (pc := 74) hx hb dX4_bench_74 rfl (lv_at hl 3 rfl) ?_
            obtain ⟨σ44, eσ44, hd⟩ := wt_lt_o hd
            refine mr_put (pc := 75) (k := 43) hx hb hts hown hK hW hJ hS (by decide) rfl eσ44 q1572 dX4_bench_75 (fun H locs hW hS => ?_)
            refine lv_aload_n (pc := 78) hx hb dX4_bench_78 rfl (lv_at hl 0 rfl) ?_
            refine lv_iload (pc := 79) hx hb dX4_bench_79 (lv_at hl 4 rfl) ?_
            obtain ⟨σ45, eσ45, hd⟩ := wt_lt_o hd
            refine mr_put (pc := 81) (k := 44) hx hb hts hown hK hW hJ hS (by decide) rfl eσ45 q1573 dX4_bench_81 (fun H locs hW hS => ?_)
            refine lv_aload_n (pc := 84) hx hb dX4_bench_84 rfl (lv_at hl 0 rfl) ?_
            refine lv_iconst (pc := 85) (v := 0) hx hb dX4_bench_85 (by decide) ?_
            refine lv_iload_n (pc := 86) hx hb dX4_bench_86 rfl (lv_at hl 1 rfl) ?_
            refine lv_iconst (pc := 87) (v := -1) hx hb dX4_bench_87 (by decide) ?_
            obtain ⟨w46, hc47, hd⟩ := wt_bd_o hd
            refine kX4_numbers (pc := 88) hx hb hml hown hts hK hJ hW hS hc47 hl.1 (Nat.le_of_ble_eq_true rfl) ⟨Nat.le_of_ble_eq_true rfl, Nat.le_of_ble_eq_true rfl⟩ ⟨Nat.le_refl _, Nat.le_refl _⟩ dX4_bench_88 (fun H locs hW hS => ?_)
            refine lv_aload_n (pc := 91) hx hb dX4_bench_91 rfl (lv_at hl 0 rfl) ?_
            refine mr_get (pc := 92) (k := 49) (v := .int ((w46.1 49))) hx hb hts hown hK hW (by decide) rfl q1578 dX4_bench_92 ?_
            obtain ⟨n48, en48, hd⟩ := wt_lt_o hd
            refine lv_tope en48 ?_
            refine lv_istore (pc := 95) (lv' := [(5, .int n48), (0, .ref X.1.1), (1, .int a0), (2, .int a1), (3, .int a2), (4, .int a3)]) hx hb dX4_bench_95 hl (by decide) rfl (fun ls hl => ?_)
            refine lv_aload_n (pc := 97) hx hb dX4_bench_97 rfl (lv_at hl 1 rfl) ?_
            obtain ⟨w49, hc50, hd⟩ := wt_bd_o hd
            refine kX4_plain (pc := 98) hx hb hml hown hts hK hJ hW hS hc50 hl.1 (Nat.le_of_ble_eq_true rfl) ⟨Nat.le_of_ble_eq_true rfl, Nat.le_of_ble_eq_true rfl⟩ ⟨Nat.le_refl _, Nat.le_refl _⟩ dX4_bench_98 (fun H locs hW hS => ?_)
            refine lv_aload_n (pc := 101) hx hb dX4_bench_101 rfl (lv_at hl 1 rfl) ?_
            refine lv_iconst (pc := 102) (v := 1) hx hb dX4_bench_102 (by decide) ?_
            refine lv_iload_n (pc := 103) hx hb dX4_bench_103 rfl (lv_at hl 2 rfl) ?_
            refine lv_iconst (pc := 104) (v := -1) hx hb dX4_bench_104 (by decide) ?_
            obtain ⟨w51, hc52, hd⟩ := wt_bd_o hd
            refine kX4_numbers (pc := 105) hx hb hml hown hts hK hJ hW hS hc52 hl.1 (Nat.le_of_ble_eq_true rfl) ⟨Nat.le_of_ble_eq_true rfl, Nat.le_of_ble_eq_true rfl⟩ ⟨Nat.le_refl _, Nat.le_refl _⟩ dX4_bench_105 (fun H locs hW hS => ?_)
            refine lv_aload_n (pc := 108) hx hb dX4_bench_108 rfl (lv_at hl 1 rfl) ?_
            refine lv_iload (pc := 109) hx hb dX4_bench_109 (lv_at hl 0 rfl) ?_
            refine lv_aload_n (pc := 111) hx hb dX4_bench_111 rfl (lv_at hl 1 rfl) ?_
            refine mr_get (pc := 112) (k := 49) (v := .int ((w51.1 49))) hx hb hts hown hK hW (by decide) rfl q1578 dX4_bench_112 ?_
            obtain ⟨w53, hc54, hd⟩ := wt_bd_o hd
            refine kX4_levels (pc := 115) hx hb hml hown hts hK hJ hW hS hc54 hl.1 (Nat.le_of_ble_eq_true rfl) ⟨Nat.le_of_ble_eq_true rfl, Nat.le_of_ble_eq_true rfl⟩ ⟨Nat.le_refl _, Nat.le_refl _⟩ dX4_bench_115 (fun H locs hW hS => ?_)
            refine lv_aload_n (pc := 118) hx hb dX4_bench_118 rfl (lv_at hl 1 rfl) ?_
            obtain ⟨w55, hc56, hd⟩ := wt_bd_o hd
            refine kX4_worthNow (pc := 119) hx hb hml hown hts hK hJ hW hS hc56 hl.1 (Nat.le_of_ble_eq_true rfl) ⟨Nat.le_of_ble_eq_true rfl, Nat.le_of_ble_eq_true rfl⟩ ⟨Nat.le_refl _, Nat.le_refl _⟩ dX4_bench_119 (fun H locs hW hS => ?_)
            exact mr_iret hx hb hr rfl hlocks (wt_p1 hd) (wt_p2 hd) hW hK hS dX4_bench_122
          · have hd := wt_if hd c42
            refine lv_iconst (pc := 66) (v := 0) hx hb dX4_bench_66 (by decide) ?_
            exact mr_iret hx hb hr rfl hlocks (wt_p1 hd) (wt_p2 hd) hW hK hS dX4_bench_67
        have hd := hj18
        refine lv_if_eq (pc := 46) (tgt := 54) hx hb dX4_bench_46 (by decide) (fun c21 => ?_) (fun c21 => ?_)
        · have hd := wt_it hd c21
          exact hX20 () (Option.some.inj hd) _ _ _ hW hS hl
        · have hd := wt_if hd c21
          refine lv_iload_n (pc := 49) hx hb dX4_bench_49 rfl (lv_at hl 2 rfl) ?_
          refine lv_iload_n (pc := 50) hx hb dX4_bench_50 rfl (lv_at hl 3 rfl) ?_
          refine lv_icmp_ne (pc := 51) (tgt := 58) hx hb dX4_bench_51 (by decide) (fun c22 => ?_) (fun c22 => ?_)
          · have hd := wt_if hd c22
            refine lv_iconst (pc := 58) (v := 0) hx hb dX4_bench_58 (by decide) ?_
            refine lv_iconst (pc := 59) (v := 2) hx hb dX4_bench_59 (by decide) ?_
            obtain ⟨w23, hc24, hd⟩ := wt_bd_o hd
            refine kX4_bad (pc := 60) hx hb hml hown hts hK hJ hW hS hc24 hl.1 (Nat.le_of_ble_eq_true rfl) ⟨Nat.le_of_ble_eq_true rfl, Nat.le_of_ble_eq_true rfl⟩ ⟨Nat.le_refl _, Nat.le_refl _⟩ dX4_bench_60 (fun H locs hW hS => ?_)
            refine lv_if_eq (pc := 63) (tgt := 68) hx hb dX4_bench_63 (by decide) (fun c25 => ?_) (fun c25 => ?_)
            · have hd := wt_it hd c25
              refine lv_aload_n (pc := 68) hx hb dX4_bench_68 rfl (lv_at hl 0 rfl) ?_
              refine lv_iload_n (pc := 69) hx hb dX4_bench_69 rfl (lv_at hl 2 rfl) ?_
              obtain ⟨σ26, eσ26, hd⟩ := wt_lt_o hd
              refine mr_put (pc := 70) (k := 42) hx hb hts hown hK hW hJ hS (by decide) rfl eσ26 q1571 dX4_bench_70 (fun H locs hW hS => ?_)
              refine lv_aload_n (pc := 73) hx hb dX4_bench_73 rfl (lv_at hl 0 rfl) ?_
              refine lv_iload_n (pc := 74) hx hb dX4_bench_74 rfl (lv_at hl 3 rfl) ?_
              obtain ⟨σ27, eσ27, hd⟩ := wt_lt_o hd
              refine mr_put (pc := 75) (k := 43) hx hb hts hown hK hW hJ hS (by decide) rfl eσ27 q1572 dX4_bench_75 (fun H locs hW hS => ?_)
              refine lv_aload_n (pc := 78) hx hb dX4_bench_78 rfl (lv_at hl 0 rfl) ?_
              refine lv_iload (pc := 79) hx hb dX4_bench_79 (lv_at hl 4 rfl) ?_
              obtain ⟨σ28, eσ28, hd⟩ := wt_lt_o hd
              refine mr_put (pc := 81) (k := 44) hx hb hts hown hK hW hJ hS (by decide) rfl eσ28 q1573 dX4_bench_81 (fun H locs hW hS => ?_)
              refine lv_aload_n (pc := 84) hx hb dX4_bench_84 rfl (lv_at hl 0 rfl) ?_
              refine lv_iconst (pc := 85) (v := 0) hx hb dX4_bench_85 (by decide) ?_
              refine lv_iload_n (pc := 86) hx hb dX4_bench_86 rfl (lv_at hl 1 rfl) ?_
              refine lv_iconst (pc := 87) (v := -1) hx hb dX4_bench_87 (by decide) ?_
              obtain ⟨w29, hc30, hd⟩ := wt_bd_o hd
              refine kX4_numbers (pc := 88) hx hb hml hown hts hK hJ hW hS hc30 hl.1 (Nat.le_of_ble_eq_true rfl) ⟨Nat.le_of_ble_eq_true rfl, Nat.le_of_ble_eq_true rfl⟩ ⟨Nat.le_refl _, Nat.le_refl _⟩ dX4_bench_88 (fun H locs hW hS => ?_)
              refine lv_aload_n (pc := 91) hx hb dX4_bench_91 rfl (lv_at hl 0 rfl) ?_
              refine mr_get (pc := 92) (k := 49) (v := .int ((w29.1 49))) hx hb hts hown hK hW (by decide) rfl q1578 dX4_bench_92 ?_
              obtain ⟨n31, en31, hd⟩ := wt_lt_o hd
              refine lv_tope en31 ?_
              refine lv_istore (pc := 95) (lv' := [(5, .int n31), (0, .ref X.1.1), (1, .int a0), (2, .int a1), (3, .int a2), (4, .int a3)]) hx hb dX4_bench_95 hl (by decide) rfl (fun ls hl => ?_)
              refine lv_aload_n (pc := 97) hx hb dX4_bench_97 rfl (lv_at hl 1 rfl) ?_
              obtain ⟨w32, hc33, hd⟩ := wt_bd_o hd
              refine kX4_plain (pc := 98) hx hb hml hown hts hK hJ hW hS hc33 hl.1 (Nat.le_of_ble_eq_true rfl) ⟨Nat.le_of_ble_eq_true rfl, Nat.le_of_ble_eq_true rfl⟩ ⟨Nat.le_refl _, Nat.le_refl _⟩ dX4_bench_98 (fun H locs hW hS => ?_)
              refine lv_aload_n (pc := 101) hx hb dX4_bench_101 rfl (lv_at hl 1 rfl) ?_
              refine lv_iconst (pc := 102) (v := 1) hx hb dX4_bench_102 (by decide) ?_
              refine lv_iload_n (pc := 103) hx hb dX4_bench_103 rfl (lv_at hl 2 rfl) ?_
              refine lv_iconst (pc := 104) (v := -1) hx hb dX4_bench_104 (by decide) ?_
              obtain ⟨w34, hc35, hd⟩ := wt_bd_o hd
              refine kX4_numbers (pc := 105) hx hb hml hown hts hK hJ hW hS hc35 hl.1 (Nat.le_of_ble_eq_true rfl) ⟨Nat.le_of_ble_eq_true rfl, Nat.le_of_ble_eq_true rfl⟩ ⟨Nat.le_refl _, Nat.le_refl _⟩ dX4_bench_105 (fun H locs hW hS => ?_)
              refine lv_aload_n (pc := 108) hx hb dX4_bench_108 rfl (lv_at hl 1 rfl) ?_
              refine lv_iload (pc := 109) hx hb dX4_bench_109 (lv_at hl 0 rfl) ?_
              refine lv_aload_n (pc := 111) hx hb dX4_bench_111 rfl (lv_at hl 1 rfl) ?_
              refine mr_get (pc := 112) (k := 49) (v := .int ((w34.1 49))) hx hb hts hown hK hW (by decide) rfl q1578 dX4_bench_112 ?_
              obtain ⟨w36, hc37, hd⟩ := wt_bd_o hd
              refine kX4_levels (pc := 115) hx hb hml hown hts hK hJ hW hS hc37 hl.1 (Nat.le_of_ble_eq_true rfl) ⟨Nat.le_of_ble_eq_true rfl, Nat.le_of_ble_eq_true rfl⟩ ⟨Nat.le_refl _, Nat.le_refl _⟩ dX4_bench_115 (fun H locs hW hS => ?_)
              refine lv_aload_n (pc := 118) hx hb dX4_bench_118 rfl (lv_at hl 1 rfl) ?_
              obtain ⟨w38, hc39, hd⟩ := wt_bd_o hd
              refine kX4_worthNow (pc := 119) hx hb hml hown hts hK hJ hW hS hc39 hl.1 (Nat.le_of_ble_eq_true rfl) ⟨Nat.le_of_ble_eq_true rfl, Nat.le_of_ble_eq_true rfl⟩ ⟨Nat.le_refl _, Nat.le_refl _⟩ dX4_bench_119 (fun H locs hW hS => ?_)
              have hd := wt_rs_r (Option.some.inj hd) hq19
              exact mr_iret hx hb hr rfl hlocks (wt_p1 hd) (wt_p2 hd) hW hK hS dX4_bench_122
            · have hd := wt_if hd c25
              refine lv_iconst (pc := 66) (v := 0) hx hb dX4_bench_66 (by decide) ?_
              have hd := wt_rs_r (Option.some.inj hd) hq19
              exact mr_iret hx hb hr rfl hlocks (wt_p1 hd) (wt_p2 hd) hW hK hS dX4_bench_67
          · have hd := wt_it hd c22
            exact hX20 () (Option.some.inj hd) _ _ _ hW hS hl
  have hd := hj5
  refine lv_if_ne (pc := 11) (tgt := 18) hx hb dX4_bench_11 (by decide) (fun c8 => ?_) (fun c8 => ?_)
  · have hd := wt_if hd c8
    refine lv_iconst (pc := 18) (v := 0) hx hb dX4_bench_18 (by decide) ?_
    exact hX7 (0 : Int32) (Option.some.inj hd) _ _ _ hW hS hl
  · have hd := wt_it hd c8
    refine lv_iconst (pc := 14) (v := 1) hx hb dX4_bench_14 (by decide) ?_
    refine lv_goto (pc := 15) (tgt := 19) hx hb dX4_bench_15 (by decide) ?_
    exact hX7 (1 : Int32) (Option.some.inj hd) _ _ _ hW hS hl
noncomputable def bX4_leftBehind_1 (σ : MSt) (a1 : Int32) (a2 : Int32) (v1 : Int32 × Int32) : Option ((Int32 × Int32) ⊕ (Int32)) :=
  if a2 ≤ v1.2 then (some (.inr v1.1)) else (wt_ck (vp_in a1 10) <| wt_lt (((v1.1 * (σ.2.1 13 a1.toNatClampNeg)) / (16 : Int32))) fun n13 => wt_lt (v1.2 + (1 : Int32)) fun n14 => some (.inl (n13, n14)))
noncomputable def dX4_leftBehind (σ : MSt) (a0 : Int32) (a1 : Int32) (a2 : Int32) : Option (Int32) :=
  wt_bd (wt_whC (bX4_leftBehind_1 σ a1 a2) (a0, (0 : Int32))) fun w2 => some w2
set_option maxHeartbeats 4000000 in
theorem wX4_leftBehind (l : Launch) {X : MPar} {lo hi : Nat} (hJ : mJ X lo hi) {σ : MSt} {a0 : Int32} {a1 : Int32} {a2 : Int32} {out_ : Int32} (hd : dX4_leftBehind σ a0 a1 a2 = some out_) : Met l yX4_leftBehind (ws_ yX4_leftBehind cX4_leftBehind 6 (some .int)) ({ frames := 0, cells := 0, slots := 0, locals := 0 }) (mP X σ [.ref X.1.1, .int a0, .int a1, .int a2]) (mQi X out_ σ (mA lo hi)) 0 0 (mA lo hi) := by
  refine Met.ofW (cc := cX4_leftBehind) (maxL := 6) (ret := (some .int)) (by decide) rfl ?_
  intro p_ e_ s_ m_ args_ below_ meth_ c_ s₁_ B hml hv
  obtain ⟨rfl, hW, hK⟩ := hv
  have hx := B.exec
  have hb := B.bytes
  have hr := B.returns
  have hts := atoms_spec (ws := (ws_ yX4_leftBehind cX4_leftBehind 6 (some .int))) B.pre
  have hts : ∀ w ∈ lw_all, w.before _ s_ = true := fun w h => hts w (List.mem_cons_of_mem _ h)
  have hown : s_.vm.findClass RX4 = some m_.cls := findClass_of_methodNamed B.named
  have hlocks := B.notSynchronized
  have hS : va_S (mA lo hi) s_.heap s_.heap [] := va_S.rf
  have hl := lv_entry ([.ref X.1.1, .int a0, .int a1, .int a2]) (n := 6) (Nat.le_of_ble_eq_true rfl)
  rw [lg_entry_eq]
  generalize (lg_sl ([.ref X.1.1, .int a0, .int a1, .int a2]) ++ List.replicate (6 - (lg_sl ([.ref X.1.1, .int a0, .int a1, .int a2])).length) Slot.unset).toArray = ls at hl ⊢
  have hl : lv_has ls 6 [(0, .ref X.1.1), (1, .int a0), (2, .int a1), (3, .int a2)] := hl
  unfold dX4_leftBehind at hd
  refine lv_iload_n (pc := 0) hx hb dX4_leftBehind_0 rfl (lv_at hl 1 rfl) ?_
  refine lv_istore (pc := 1) (lv' := [(4, .int a0), (0, .ref X.1.1), (1, .int a0), (2, .int a1), (3, .int a2)]) hx hb dX4_leftBehind_1 hl (by decide) rfl (fun ls hl => ?_)
  refine lv_iconst (pc := 3) (v := 0) hx hb dX4_leftBehind_3 (by decide) ?_
  refine lv_istore (pc := 4) (lv' := [(5, .int (0 : Int32)), (4, .int a0), (0, .ref X.1.1), (1, .int a0), (2, .int a1), (3, .int a2)]) hx hb dX4_leftBehind_4 hl (by decide) rfl (fun ls hl => ?_)
  obtain ⟨w2, hL3, hq4⟩ := wt_bd_o hd
  have hX5 : ∀ w2_ : Int32, w2_ = w2 → ∀ (H : Heap) (locs : List Loc) (ls : Array Slot), mW X σ H → va_S (mA lo hi) s_.heap H locs → lv_has ls 6 [(4, .int w2_)] → W p_ l e_ (headSpec (ws_ yX4_leftBehind cX4_leftBehind 6 (some .int)) ({ frames := 0, cells := 0, slots := 0, locals := 0 })).room s_ m_ ([.ref X.1.1, .int a0, .int a1, .int a2] : List Value).toArray below_ meth_ c_ H locs 0 0 (MQ below_ (mQi X out_ σ (mA lo hi)) ([.ref X.1.1, .int a0, .int a1, .int a2] : List Value).toArray s_ 0 0 (mA lo hi)) (F0 m_ 32 ls []) := by
    intro w2_ hw_
    have hd := hq4
    subst hw_
    clear hL3 hq4
    intro H locs ls hW hS hl
    refine lv_iload (pc := 32) hx hb dX4_leftBehind_32 (lv_at hl 0 rfl) ?_
    exact mr_iret hx hb hr rfl hlocks (Option.some.inj hd) rfl hW hK hS dX4_leftBehind_34
  have hI10 : ∀ (k9 : Nat) (v1 : Int32 × Int32), wt_wh (bX4_leftBehind_1 σ a1 a2) k9 v1 = some w2 → ∀ (H : Heap) (locs : List Loc) (ls : Array Slot), mW X σ H → va_S (mA lo hi) s_.heap H locs → lv_has ls 6 [(0, .ref X.1.1), (2, .int a1), (3, .int a2), (4, .int v1.1), (5, .int v1.2)] → W p_ l e_ (headSpec (ws_ yX4_leftBehind cX4_leftBehind 6 (some .int)) ({ frames := 0, cells := 0, slots := 0, locals := 0 })).room s_ m_ ([.ref X.1.1, .int a0, .int a1, .int a2] : List Value).toArray below_ meth_ c_ H locs 0 0 (MQ below_ (mQi X out_ σ (mA lo hi)) ([.ref X.1.1, .int a0, .int a1, .int a2] : List Value).toArray s_ 0 0 (mA lo hi)) (F0 m_ 6 ls []) := by
    intro k9
    induction k9 with
    | zero => intro v1 hd; exact absurd hd wt_wh_z
    | succ k9 ih7 =>
      intro v1 hd
      intro H locs ls hW hS hl
      obtain ⟨r8, hd, hk6⟩ := wt_wh_o hd
      unfold bX4_leftBehind_1 at hd
      refine lv_iload (pc := 6) hx hb dX4_leftBehind_6 (lv_at hl 4 rfl) ?_
      refine lv_iload_n (pc := 8) hx hb dX4_leftBehind_8 rfl (lv_at hl 2 rfl) ?_
      refine lv_icmp_ge (pc := 9) (tgt := 32) hx hb dX4_leftBehind_9 (by decide) (fun c11 => ?_) (fun c11 => ?_)
      · have hd := wt_it hd c11
        exact hX5 v1.1 (wt_exit hd hk6) _ _ _ hW hS (lv_sub hl [3] rfl)
      · have hd := wt_if hd c11
        refine lv_iload (pc := 12) hx hb dX4_leftBehind_12 (lv_at hl 3 rfl) ?_
        refine lv_aload_n (pc := 14) hx hb dX4_leftBehind_14 rfl (lv_at hl 0 rfl) ?_
        refine mr_get (pc := 15) (k := 13) (v := .ref (X.1.2.1 13)) hx hb hts hown hK hW (by decide) rfl q1542 dX4_leftBehind_15 ?_
        refine lv_iload_n (pc := 18) hx hb dX4_leftBehind_18 rfl (lv_at hl 1 rfl) ?_
        obtain ⟨h12, hd⟩ := wt_ck_o hd
        refine mr_ald (pc := 19) (k := 13) hx hb hK hW rfl h12 dX4_leftBehind_19 ?_
        refine lv_imul (pc := 20) hx hb dX4_leftBehind_20 ?_
        refine lv_bipush (pc := 21) (v := 16) hx hb dX4_leftBehind_21 (by decide) ?_
        refine lv_idiv (pc := 23) hx hb dX4_leftBehind_23 (by decide) ?_
        obtain ⟨n13, en13, hd⟩ := wt_lt_o hd
        refine lv_tope en13 ?_
        refine lv_istore (pc := 24) (lv' := [(4, .int n13), (0, .ref X.1.1), (2, .int a1), (3, .int a2), (5, .int v1.2)]) hx hb dX4_leftBehind_24 hl (by decide) rfl (fun ls hl => ?_)
        obtain ⟨n14, en14, hd⟩ := wt_lt_o hd
        refine lv_iinc (pc := 26) (k := 4) (v := n14) (lv' := [(5, .int n14), (4, .int n13), (0, .ref X.1.1), (2, .int a1), (3, .int a2)]) hx hb dX4_leftBehind_26 hl rfl en14.symm (by decide) rfl (fun ls hl => ?_)
        refine lv_goto (pc := 29) (tgt := 6) hx hb dX4_leftBehind_29 (by decide) ?_
        exact ih7 _ (wt_again hd hk6) _ _ _ hW hS (lv_sub hl [2, 3, 4, 1, 0] rfl)
  obtain ⟨k9, hL3⟩ := wt_whC_o hL3
  exact hI10 k9 _ hL3 _ _ _ hW hS (lv_sub hl [2, 4, 5, 1, 0] rfl)
theorem kX4_leftBehind {p : Program} {l : Launch} {e : Env} {R : Room} {s : State} {m : MethodId} {args : Array Value} {below : List Frame} {meth : Method} {c : Code} {H : Heap} {locs : List Loc} {cells slots : Nat} {Q : State → Prop} {cc : ByteArray} {pc : Nat} {ls : Array Slot} {rest : List Value} {H0 : Heap} {nL : Nat} {X : MPar} {lo hi : Nat} {σ : MSt} {a0 : Int32} {a1 : Int32} {a2 : Int32} {out_ : Int32} (hx : p.tables.exec = Jvm.exec) (hb : c.code = cc) (hml : c.maxLocals = nL) (hown : s.vm.findClass RX4 = some m.cls) (hts : ∀ w ∈ lw_all, w.before args s = true) (hK : mK X s) (hJ : mJ X lo hi) (hW : mW X σ H) (hS : va_S (mA lo hi) H0 H locs) (hd : dX4_leftBehind σ a0 a1 a2 = some out_) (hsz : ls.size = nL) (hrm : (rest.map fun v => v.category).sum ≤ 8) (hR : 1 ≤ R.frames ∧ 25 ≤ R.locals) (hcs : cells ≤ R.cells ∧ slots ≤ R.slots) (hdg : decode cc pc = .ok (.invokevirtual 296, 3)) (kk : ∀ (H1 : Heap) (locs1 : List Loc), mW X σ H1 → va_S (mA lo hi) H0 H1 locs1 → W p l e R s m args below meth c H1 locs1 cells slots Q (F0 m (pc + 3) ls (.int out_ :: rest))) : W p l e R s m args below meth c H locs cells slots Q (F0 m pc ls (.int a2 :: .int a1 :: .int a0 :: .ref X.1.1 :: rest)) := by
  refine va_calli (va_runV (As := [.int a0, .int a1, .int a2]) (rest := rest) ⟨hx, hb, hml, hown, hts⟩ (wX4_leftBehind l hJ hd) (cwV 3 hts (lw_V q1946 q1948 qs61 q88 q1949) rfl rfl rfl (by decide +kernel) hR) (mr_pre hK hW) rfl rfl hsz rfl (lv_room hrm) hdg hcs) hS (fun _ _ h => h) (fun _ h => h) (fun r u t H1 locs1 ht hvm hp hB hz hk hS1 => ?_)
  have hp : r = out_ := hp
  subst hp
  have hW1 : mW X σ t.heap := hB.1
  rw [ht] at hW1
  exact kk H1 locs1 hW1 hS1
noncomputable def bX4_after_1 (a0 : Int32) (a2 : Int32) (w24 : Int32 × MSt) (w27 : Int32) (v32 : Int32 × Int32) : Option ((Int32 × Int32) ⊕ (Int32)) :=
  if v32.2 ≤ v32.1 then (some (.inr v32.1)) else (wt_lt (((v32.1 + v32.2) / (2 : Int32))) fun n43 => wt_bd (dX4_leftBehind w24.2 n43 a0 a2) fun w44 => if w44 < w27 then (wt_lt ((n43 + (1 : Int32))) fun n47 => some (.inl (n47, v32.2))) else (some (.inl (v32.1, n43))))
noncomputable def bX4_after_2 (a0 : Int32) (a2 : Int32) (w68 : Int32 × MSt) (w71 : Int32) (v76 : Int32 × Int32) : Option ((Int32 × Int32) ⊕ (Int32)) :=
  if v76.2 ≤ v76.1 then (some (.inr v76.1)) else (wt_lt (((v76.1 + v76.2) / (2 : Int32))) fun n87 => wt_bd (dX4_leftBehind w68.2 n87 a0 a2) fun w88 => if w88 < w71 then (wt_lt ((n87 + (1 : Int32))) fun n91 => some (.inl (n91, v76.2))) else (some (.inl (v76.1, n87))))
noncomputable def dX4_after (σ : MSt) (a0 : Int32) (a1 : Int32) (a2 : Int32) (a3 : Int32) : Option (Int32 × MSt) :=
  wt_lt (m_sF σ 0 (0 : Int32)) fun σ1 => wt_bd (dX4_in a0 (0 : Int32) (9 : Int32)) fun w2 => wt_bd (if w2 = 0 then (some (.inl ())) else (wt_bd (dX4_in a1 (0 : Int32) (9999 : Int32)) fun w9 => if w9 = 0 then (some (.inl ())) else (wt_bd (dX4_in a2 (0 : Int32) (60 : Int32)) fun w12 => if w12 = 0 then (some (.inl ())) else (wt_bd (dX4_bad σ1 (0 : Int32) (1 : Int32)) fun w15 => if w15.1 = 0 then (wt_ck (vp_in a0 10) <| wt_bd (if (w15.2.2.1 13 a0.toNatClampNeg) = 0 then (some (1 : Int32)) else (some (0 : Int32))) fun w19 => wt_bd (dX4_bad w15.2 w19 (1 : Int32)) fun w24 => if w24.1 = 0 then (wt_bd (if a3 = 0 then (some (a1)) else (some (a1 + (1 : Int32)))) fun w27 => wt_bd (wt_whC (bX4_after_1 a0 a2 w24 w27) ((0 : Int32), (100000 : Int32))) fun w33 => wt_bd (if a3 = 0 then (some (w33)) else (some (w33 - (1 : Int32)))) fun w48 => wt_bd (dX4_in w48 (0 : Int32) (99999 : Int32)) fun w53 => if w53 = 0 then (some (.inr ((-1 : Int32), w24.2))) else (wt_bd (dX4_leftBehind w24.2 w48 a0 a2) fun w56 => if w56 = a1 then (some (.inr (w48, w24.2))) else (some (.inr ((-1 : Int32), w24.2))))) else (some (.inr ((0 : Int32), w24.2)))) else (some (.inr ((0 : Int32), w15.2))))))) fun w4 => wt_rs w4 (fun w4 => wt_bd (dX4_bad σ1 (1 : Int32) (1 : Int32)) fun w59 => if w59.1 = 0 then (wt_ck (vp_in a0 10) <| wt_bd (if (w59.2.2.1 13 a0.toNatClampNeg) = 0 then (some (1 : Int32)) else (some (0 : Int32))) fun w63 => wt_bd (dX4_bad w59.2 w63 (1 : Int32)) fun w68 => if w68.1 = 0 then (wt_bd (if a3 = 0 then (some (a1)) else (some (a1 + (1 : Int32)))) fun w71 => wt_bd (wt_whC (bX4_after_2 a0 a2 w68 w71) ((0 : Int32), (100000 : Int32))) fun w77 => wt_bd (if a3 = 0 then (some (w77)) else (some (w77 - (1 : Int32)))) fun w92 => wt_bd (dX4_in w92 (0 : Int32) (99999 : Int32)) fun w97 => if w97 = 0 then (some ((-1 : Int32), w68.2)) else (wt_bd (dX4_leftBehind w68.2 w92 a0 a2) fun w100 => if w100 = a1 then (some (w92, w68.2)) else (some ((-1 : Int32), w68.2)))) else (some ((0 : Int32), w68.2))) else (some ((0 : Int32), w59.2))) (fun z_ => some z_)
set_option maxHeartbeats 4000000 in
theorem wX4_after (l : Launch) {X : MPar} {lo hi : Nat} (hJ : mJ X lo hi) {σ : MSt} {a0 : Int32} {a1 : Int32} {a2 : Int32} {a3 : Int32} {out_ : Int32 × MSt} (hd : dX4_after σ a0 a1 a2 a3 = some out_) : Met l yX4_after (ws_ yX4_after cX4_after 9 (some .int)) ({ frames := 1, cells := 0, slots := 0, locals := 25 }) (mP X σ [.ref X.1.1, .int a0, .int a1, .int a2, .int a3]) (mQi X out_.1 out_.2 (mA lo hi)) 0 0 (mA lo hi) := by
  refine Met.ofW (cc := cX4_after) (maxL := 9) (ret := (some .int)) (by decide) rfl ?_
  intro p_ e_ s_ m_ args_ below_ meth_ c_ s₁_ B hml hv
  obtain ⟨rfl, hW, hK⟩ := hv
  have hx := B.exec
  have hb := B.bytes
  have hr := B.returns
  have hts := atoms_spec (ws := (ws_ yX4_after cX4_after 9 (some .int))) B.pre
  have hts : ∀ w ∈ lw_all, w.before _ s_ = true := fun w h => hts w (List.mem_cons_of_mem _ h)
  have hown : s_.vm.findClass RX4 = some m_.cls := findClass_of_methodNamed B.named
  have hlocks := B.notSynchronized
  have hS : va_S (mA lo hi) s_.heap s_.heap [] := va_S.rf
  have hl := lv_entry ([.ref X.1.1, .int a0, .int a1, .int a2, .int a3]) (n := 9) (Nat.le_of_ble_eq_true rfl)
  rw [lg_entry_eq]
  generalize (lg_sl ([.ref X.1.1, .int a0, .int a1, .int a2, .int a3]) ++ List.replicate (9 - (lg_sl ([.ref X.1.1, .int a0, .int a1, .int a2, .int a3])).length) Slot.unset).toArray = ls at hl ⊢
  have hl : lv_has ls 9 [(0, .ref X.1.1), (1, .int a0), (2, .int a1), (3, .int a2), (4, .int a3)] := hl
  unfold dX4_after at hd
  refine lv_aload_n (pc := 0) hx hb dX4_after_0 rfl (lv_at hl 0 rfl) ?_
  refine lv_iconst (pc := 1) (v := 0) hx hb dX4_after_1 (by decide) ?_
  obtain ⟨σ1, eσ1, hd⟩ := wt_lt_o hd
  refine mr_put (pc := 2) (k := 0) hx hb hts hown hK hW hJ hS (by decide) rfl eσ1 q1529 dX4_after_2 (fun H locs hW hS => ?_)
  refine lv_aload_n (pc := 5) hx hb dX4_after_5 rfl (lv_at hl 0 rfl) ?_
  refine lv_iload_n (pc := 6) hx hb dX4_after_6 rfl (lv_at hl 1 rfl) ?_
  refine lv_iconst (pc := 7) (v := 0) hx hb dX4_after_7 (by decide) ?_
  refine lv_bipush (pc := 8) (v := 9) hx hb dX4_after_8 (by decide) ?_
  obtain ⟨w2, hc3, hd⟩ := wt_bd_o hd
  refine kX4_in (pc := 10) hx hb hml hown hts hK hW hS hc3 hl.1 (Nat.le_of_ble_eq_true rfl) ⟨Nat.le_of_ble_eq_true rfl, Nat.le_of_ble_eq_true rfl⟩ ⟨Nat.le_refl _, Nat.le_refl _⟩ dX4_after_10 (fun H locs hW hS => ?_)
  obtain ⟨w4, hj5, hq6⟩ := wt_bd_o hd
  have hX7 : ∀ w4_ : Unit, (Sum.inl w4_ : Unit ⊕ _) = w4 → ∀ (H : Heap) (locs : List Loc) (ls : Array Slot), mW X σ1 H → va_S (mA lo hi) s_.heap H locs → lv_has ls 9 [(0, .ref X.1.1), (1, .int a0), (2, .int a1), (3, .int a2), (4, .int a3)] → W p_ l e_ (headSpec (ws_ yX4_after cX4_after 9 (some .int)) ({ frames := 1, cells := 0, slots := 0, locals := 25 })).room s_ m_ ([.ref X.1.1, .int a0, .int a1, .int a2, .int a3] : List Value).toArray below_ meth_ c_ H locs 0 0 (MQ below_ (mQi X out_.1 out_.2 (mA lo hi)) ([.ref X.1.1, .int a0, .int a1, .int a2, .int a3] : List Value).toArray s_ 0 0 (mA lo hi)) (F0 m_ 37 ls [.ref X.1.1]) := by
    intro w4_ hw_
    have hd := wt_rs_l hw_ hq6
    clear hj5 hq6
    intro H locs ls hW hS hl
    refine lv_iconst (pc := 37) (v := 1) hx hb dX4_after_37 (by decide) ?_
    refine lv_goto (pc := 38) (tgt := 42) hx hb dX4_after_38 (by decide) ?_
    refine lv_iconst (pc := 42) (v := 1) hx hb dX4_after_42 (by decide) ?_
    obtain ⟨w59, hc60, hd⟩ := wt_bd_o hd
    refine kX4_bad (pc := 43) hx hb hml hown hts hK hJ hW hS hc60 hl.1 (Nat.le_of_ble_eq_true rfl) ⟨Nat.le_of_ble_eq_true rfl, Nat.le_of_ble_eq_true rfl⟩ ⟨Nat.le_refl _, Nat.le_refl _⟩ dX4_after_43 (fun H locs hW hS => ?_)
    refine lv_if_ne (pc := 46) (tgt := 71) hx hb dX4_after_46 (by decide) (fun c61 => ?_) (fun c61 => ?_)
    · have hd := wt_if hd c61
      refine lv_iconst (pc := 71) (v := 0) hx hb dX4_after_71 (by decide) ?_
      exact mr_iret hx hb hr rfl hlocks (wt_p1 hd) (wt_p2 hd) hW hK hS dX4_after_72
    · have hd := wt_it hd c61
      refine lv_aload_n (pc := 49) hx hb dX4_after_49 rfl (lv_at hl 0 rfl) ?_
      refine lv_aload_n (pc := 50) hx hb dX4_after_50 rfl (lv_at hl 0 rfl) ?_
      refine mr_get (pc := 51) (k := 13) (v := .ref (X.1.2.1 13)) hx hb hts hown hK hW (by decide) rfl q1542 dX4_after_51 ?_
      refine lv_iload_n (pc := 54) hx hb dX4_after_54 rfl (lv_at hl 1 rfl) ?_
      obtain ⟨h62, hd⟩ := wt_ck_o hd
      refine mr_ald (pc := 55) (k := 13) hx hb hK hW rfl h62 dX4_after_55 ?_
      obtain ⟨w63, hj64, hq65⟩ := wt_bd_o hd
      have hX66 : ∀ w63_ : Int32, w63_ = w63 → ∀ (H : Heap) (locs : List Loc) (ls : Array Slot), mW X w59.2 H → va_S (mA lo hi) s_.heap H locs → lv_has ls 9 [(0, .ref X.1.1), (1, .int a0), (2, .int a1), (3, .int a2), (4, .int a3)] → W p_ l e_ (headSpec (ws_ yX4_after cX4_after 9 (some .int)) ({ frames := 1, cells := 0, slots := 0, locals := 25 })).room s_ m_ ([.ref X.1.1, .int a0, .int a1, .int a2, .int a3] : List Value).toArray below_ meth_ c_ H locs 0 0 (MQ below_ (mQi X out_.1 out_.2 (mA lo hi)) ([.ref X.1.1, .int a0, .int a1, .int a2, .int a3] : List Value).toArray s_ 0 0 (mA lo hi)) (F0 m_ 64 ls [.int w63_, .ref X.1.1]) := by
        intro w63_ hw_
        have hd := hq65
        subst hw_
        clear hj64 hq65
        intro H locs ls hW hS hl
        refine lv_iconst (pc := 64) (v := 1) hx hb dX4_after_64 (by decide) ?_
        obtain ⟨w68, hc69, hd⟩ := wt_bd_o hd
        refine kX4_bad (pc := 65) hx hb hml hown hts hK hJ hW hS hc69 hl.1 (Nat.le_of_ble_eq_true rfl) ⟨Nat.le_of_ble_eq_true rfl, Nat.le_of_ble_eq_true rfl⟩ ⟨Nat.le_refl _, Nat.le_refl _⟩ dX4_after_65 (fun H locs hW hS => ?_)
        refine lv_if_eq (pc := 68) (tgt := 73) hx hb dX4_after_68 (by decide) (fun c70 => ?_) (fun c70 => ?_)
        · have hd := wt_it hd c70
          refine lv_iconst (pc := 73) (v := 0) hx hb dX4_after_73 (by decide) ?_
          refine lv_istore (pc := 74) (lv' := [(5, .int (0 : Int32)), (0, .ref X.1.1), (1, .int a0), (2, .int a1), (3, .int a2), (4, .int a3)]) hx hb dX4_after_74 hl (by decide) rfl (fun ls hl => ?_)
          refine lv_ldc (pc := 76) hx hb hown (hts _ q1745) dX4_after_76 ?_
          refine lv_istore (pc := 78) (lv' := [(6, .int (100000 : Int32)), (5, .int (0 : Int32)), (0, .ref X.1.1), (1, .int a0), (2, .int a1), (3, .int a2), (4, .int a3)]) hx hb dX4_after_78 hl (by decide) rfl (fun ls hl => ?_)
          refine lv_iload (pc := 80) hx hb dX4_after_80 (lv_at hl 6 rfl) ?_
          obtain ⟨w71, hj72, hq73⟩ := wt_bd_o hd
          have hX74 : ∀ w71_ : Int32, w71_ = w71 → ∀ (H : Heap) (locs : List Loc) (ls : Array Slot), mW X w68.2 H → va_S (mA lo hi) s_.heap H locs → lv_has ls 9 [(0, .ref X.1.1), (1, .int a0), (2, .int a1), (3, .int a2), (4, .int a3), (5, .int (0 : Int32)), (6, .int (100000 : Int32))] → W p_ l e_ (headSpec (ws_ yX4_after cX4_after 9 (some .int)) ({ frames := 1, cells := 0, slots := 0, locals := 25 })).room s_ m_ ([.ref X.1.1, .int a0, .int a1, .int a2, .int a3] : List Value).toArray below_ meth_ c_ H locs 0 0 (MQ below_ (mQi X out_.1 out_.2 (mA lo hi)) ([.ref X.1.1, .int a0, .int a1, .int a2, .int a3] : List Value).toArray s_ 0 0 (mA lo hi)) (F0 m_ 92 ls [.int w71_]) := by
            intro w71_ hw_
            have hd := hq73
            subst hw_
            clear hj72 hq73
            intro H locs ls hW hS hl
            refine lv_istore (pc := 92) (lv' := [(7, .int w71_), (0, .ref X.1.1), (1, .int a0), (2, .int a1), (3, .int a2), (4, .int a3), (5, .int (0 : Int32)), (6, .int (100000 : Int32))]) hx hb dX4_after_92 hl (by decide) rfl (fun ls hl => ?_)
            obtain ⟨w77, hL78, hq79⟩ := wt_bd_o hd
            have hX80 : ∀ w77_ : Int32, w77_ = w77 → ∀ (H : Heap) (locs : List Loc) (ls : Array Slot), mW X w68.2 H → va_S (mA lo hi) s_.heap H locs → lv_has ls 9 [(0, .ref X.1.1), (1, .int a0), (2, .int a1), (3, .int a2), (4, .int a3), (5, .int w77_)] → W p_ l e_ (headSpec (ws_ yX4_after cX4_after 9 (some .int)) ({ frames := 1, cells := 0, slots := 0, locals := 25 })).room s_ m_ ([.ref X.1.1, .int a0, .int a1, .int a2, .int a3] : List Value).toArray below_ meth_ c_ H locs 0 0 (MQ below_ (mQi X out_.1 out_.2 (mA lo hi)) ([.ref X.1.1, .int a0, .int a1, .int a2, .int a3] : List Value).toArray s_ 0 0 (mA lo hi)) (F0 m_ 139 ls []) := by
              intro w77_ hw_
              have hd := hq79
              subst hw_
              clear hL78 hq79
              intro H locs ls hW hS hl
              refine lv_iload (pc := 139) hx hb dX4_after_139 (lv_at hl 4 rfl) ?_
              obtain ⟨w92, hj93, hq94⟩ := wt_bd_o hd
              have hX95 : ∀ w92_ : Int32, w92_ = w92 → ∀ (H : Heap) (locs : List Loc) (ls : Array Slot), mW X w68.2 H → va_S (mA lo hi) s_.heap H locs → lv_has ls 9 [(0, .ref X.1.1), (1, .int a0), (2, .int a1), (3, .int a2)] → W p_ l e_ (headSpec (ws_ yX4_after cX4_after 9 (some .int)) ({ frames := 1, cells := 0, slots := 0, locals := 25 })).room s_ m_ ([.ref X.1.1, .int a0, .int a1, .int a2, .int a3] : List Value).toArray below_ meth_ c_ H locs 0 0 (MQ below_ (mQi X out_.1 out_.2 (mA lo hi)) ([.ref X.1.1, .int a0, .int a1, .int a2, .int a3] : List Value).toArray s_ 0 0 (mA lo hi)) (F0 m_ 153 ls [.int w92_]) := by
                intro w92_ hw_
                have hd := hq94
                subst hw_
                clear hj93 hq94
                intro H locs ls hW hS hl
                refine lv_istore (pc := 153) (lv' := [(8, .int w92_), (0, .ref X.1.1), (1, .int a0), (2, .int a1), (3, .int a2)]) hx hb dX4_after_153 hl (by decide) rfl (fun ls hl => ?_)
                refine lv_iload (pc := 155) hx hb dX4_after_155 (lv_at hl 0 rfl) ?_
                refine lv_iconst (pc := 157) (v := 0) hx hb dX4_after_157 (by decide) ?_
                refine lv_ldcw (pc := 158) hx hb hown (hts _ q1950) dX4_after_158 ?_
                obtain ⟨w97, hc98, hd⟩ := wt_bd_o hd
                refine kX4_in (pc := 161) hx hb hml hown hts hK hW hS hc98 hl.1 (Nat.le_of_ble_eq_true rfl) ⟨Nat.le_of_ble_eq_true rfl, Nat.le_of_ble_eq_true rfl⟩ ⟨Nat.le_refl _, Nat.le_refl _⟩ dX4_after_161 (fun H locs hW hS => ?_)
                refine lv_if_eq (pc := 164) (tgt := 184) hx hb dX4_after_164 (by decide) (fun c99 => ?_) (fun c99 => ?_)
                · have hd := wt_it hd c99
                  refine lv_iconst (pc := 184) (v := -1) hx hb dX4_after_184 (by decide) ?_
                  exact mr_iret hx hb hr rfl hlocks (wt_p1 hd) (wt_p2 hd) hW hK hS dX4_after_185
                · have hd := wt_if hd c99
                  refine lv_aload_n (pc := 167) hx hb dX4_after_167 rfl (lv_at hl 1 rfl) ?_
                  refine lv_iload (pc := 168) hx hb dX4_after_168 (lv_at hl 0 rfl) ?_
                  refine lv_iload_n (pc := 170) hx hb dX4_after_170 rfl (lv_at hl 2 rfl) ?_
                  refine lv_iload_n (pc := 171) hx hb dX4_after_171 rfl (lv_at hl 4 rfl) ?_
                  obtain ⟨w100, hc101, hd⟩ := wt_bd_o hd
                  refine kX4_leftBehind (pc := 172) hx hb hml hown hts hK hJ hW hS hc101 hl.1 (Nat.le_of_ble_eq_true rfl) ⟨Nat.le_of_ble_eq_true rfl, Nat.le_of_ble_eq_true rfl⟩ ⟨Nat.le_refl _, Nat.le_refl _⟩ dX4_after_172 (fun H locs hW hS => ?_)
                  refine lv_iload_n (pc := 175) hx hb dX4_after_175 rfl (lv_at hl 3 rfl) ?_
                  refine lv_icmp_ne (pc := 176) (tgt := 184) hx hb dX4_after_176 (by decide) (fun c102 => ?_) (fun c102 => ?_)
                  · have hd := wt_if hd c102
                    refine lv_iconst (pc := 184) (v := -1) hx hb dX4_after_184 (by decide) ?_
                    exact mr_iret hx hb hr rfl hlocks (wt_p1 hd) (wt_p2 hd) hW hK hS dX4_after_185
                  · have hd := wt_it hd c102
                    refine lv_iload (pc := 179) hx hb dX4_after_179 (lv_at hl 0 rfl) ?_
                    refine lv_goto (pc := 181) (tgt := 185) hx hb dX4_after_181 (by decide) ?_
                    exact mr_iret hx hb hr rfl hlocks (wt_p1 hd) (wt_p2 hd) hW hK hS dX4_after_185
              have hd := hj93
              refine lv_if_eq (pc := 141) (tgt := 151) hx hb dX4_after_141 (by decide) (fun c96 => ?_) (fun c96 => ?_)
              · have hd := wt_it hd c96
                refine lv_iload (pc := 151) hx hb dX4_after_151 (lv_at hl 5 rfl) ?_
                exact hX95 w77_ (Option.some.inj hd) _ _ _ hW hS (lv_sub hl [0, 1, 2, 3] rfl)
              · have hd := wt_if hd c96
                refine lv_iload (pc := 144) hx hb dX4_after_144 (lv_at hl 5 rfl) ?_
                refine lv_iconst (pc := 146) (v := 1) hx hb dX4_after_146 (by decide) ?_
                refine lv_isub (pc := 147) hx hb dX4_after_147 ?_
                refine lv_goto (pc := 148) (tgt := 153) hx hb dX4_after_148 (by decide) ?_
                exact hX95 (w77_ - (1 : Int32)) (Option.some.inj hd) _ _ _ hW hS (lv_sub hl [0, 1, 2, 3] rfl)
            have hI85 : ∀ (k84 : Nat) (v76 : Int32 × Int32), wt_wh (bX4_after_2 a0 a2 w68 w71_) k84 v76 = some w77 → ∀ (H : Heap) (locs : List Loc) (ls : Array Slot), mW X w68.2 H → va_S (mA lo hi) s_.heap H locs → lv_has ls 9 [(0, .ref X.1.1), (1, .int a0), (2, .int a1), (3, .int a2), (4, .int a3), (5, .int v76.1), (6, .int v76.2), (7, .int w71_)] → W p_ l e_ (headSpec (ws_ yX4_after cX4_after 9 (some .int)) ({ frames := 1, cells := 0, slots := 0, locals := 25 })).room s_ m_ ([.ref X.1.1, .int a0, .int a1, .int a2, .int a3] : List Value).toArray below_ meth_ c_ H locs 0 0 (MQ below_ (mQi X out_.1 out_.2 (mA lo hi)) ([.ref X.1.1, .int a0, .int a1, .int a2, .int a3] : List Value).toArray s_ 0 0 (mA lo hi)) (F0 m_ 94 ls []) := by
              intro k84
              induction k84 with
              | zero => intro v76 hd; exact absurd hd wt_wh_z
              | succ k84 ih82 =>
                intro v76 hd
                intro H locs ls hW hS hl
                obtain ⟨r83, hd, hk81⟩ := wt_wh_o hd
                unfold bX4_after_2 at hd
                refine lv_iload (pc := 94) hx hb dX4_after_94 (lv_at hl 5 rfl) ?_
                refine lv_iload (pc := 96) hx hb dX4_after_96 (lv_at hl 6 rfl) ?_
                refine lv_icmp_ge (pc := 98) (tgt := 139) hx hb dX4_after_98 (by decide) (fun c86 => ?_) (fun c86 => ?_)
                · have hd := wt_it hd c86
                  exact hX80 v76.1 (wt_exit hd hk81) _ _ _ hW hS (lv_sub hl [0, 1, 2, 3, 4, 5] rfl)
                · have hd := wt_if hd c86
                  refine lv_iload (pc := 101) hx hb dX4_after_101 (lv_at hl 5 rfl) ?_
                  refine lv_iload (pc := 103) hx hb dX4_after_103 (lv_at hl 6 rfl) ?_
                  refine lv_iadd (pc := 105) hx hb dX4_after_105 ?_
                  refine lv_iconst (pc := 106) (v := 2) hx hb dX4_after_106 (by decide) ?_
                  refine lv_idiv (pc := 107) hx hb dX4_after_107 (by decide) ?_
                  obtain ⟨n87, en87, hd⟩ := wt_lt_o hd
                  refine lv_tope en87 ?_
                  refine lv_istore (pc := 108) (lv' := [(8, .int n87), (0, .ref X.1.1), (1, .int a0), (2, .int a1), (3, .int a2), (4, .int a3), (5, .int v76.1), (6, .int v76.2), (7, .int w71_)]) hx hb dX4_after_108 hl (by decide) rfl (fun ls hl => ?_)
                  refine lv_aload_n (pc := 110) hx hb dX4_after_110 rfl (lv_at hl 1 rfl) ?_
                  refine lv_iload (pc := 111) hx hb dX4_after_111 (lv_at hl 0 rfl) ?_
                  refine lv_iload_n (pc := 113) hx hb dX4_after_113 rfl (lv_at hl 2 rfl) ?_
                  refine lv_iload_n (pc := 114) hx hb dX4_after_114 rfl (lv_at hl 4 rfl) ?_
                  obtain ⟨w88, hc89, hd⟩ := wt_bd_o hd
                  refine kX4_leftBehind (pc := 115) hx hb hml hown hts hK hJ hW hS hc89 hl.1 (Nat.le_of_ble_eq_true rfl) ⟨Nat.le_of_ble_eq_true rfl, Nat.le_of_ble_eq_true rfl⟩ ⟨Nat.le_refl _, Nat.le_refl _⟩ dX4_after_115 (fun H locs hW hS => ?_)
                  refine lv_iload (pc := 118) hx hb dX4_after_118 (lv_at hl 8 rfl) ?_
                  refine lv_icmp_lt (pc := 120) (tgt := 130) hx hb dX4_after_120 (by decide) (fun c90 => ?_) (fun c90 => ?_)
                  · have hd := wt_it hd c90
                    refine lv_iload (pc := 130) hx hb dX4_after_130 (lv_at hl 0 rfl) ?_
                    refine lv_iconst (pc := 132) (v := 1) hx hb dX4_after_132 (by decide) ?_
                    refine lv_iadd (pc := 133) hx hb dX4_after_133 ?_
                    obtain ⟨n91, en91, hd⟩ := wt_lt_o hd
                    refine lv_tope en91 ?_
                    refine lv_istore (pc := 134) (lv' := [(5, .int n91), (8, .int n87), (0, .ref X.1.1), (1, .int a0), (2, .int a1), (3, .int a2), (4, .int a3), (6, .int v76.2), (7, .int w71_)]) hx hb dX4_after_134 hl (by decide) rfl (fun ls hl => ?_)
                    refine lv_goto (pc := 136) (tgt := 94) hx hb dX4_after_136 (by decide) ?_
                    exact ih82 _ (wt_again hd hk81) _ _ _ hW hS (lv_sub hl [2, 3, 4, 5, 6, 0, 7, 8] rfl)
                  · have hd := wt_if hd c90
                    refine lv_iload (pc := 123) hx hb dX4_after_123 (lv_at hl 0 rfl) ?_
                    refine lv_istore (pc := 125) (lv' := [(6, .int n87), (8, .int n87), (0, .ref X.1.1), (1, .int a0), (2, .int a1), (3, .int a2), (4, .int a3), (5, .int v76.1), (7, .int w71_)]) hx hb dX4_after_125 hl (by decide) rfl (fun ls hl => ?_)
                    refine lv_goto (pc := 127) (tgt := 136) hx hb dX4_after_127 (by decide) ?_
                    refine lv_goto (pc := 136) (tgt := 94) hx hb dX4_after_136 (by decide) ?_
                    exact ih82 _ (wt_again hd hk81) _ _ _ hW hS (lv_sub hl [2, 3, 4, 5, 6, 7, 0, 8] rfl)
            obtain ⟨k84, hL78⟩ := wt_whC_o hL78
            exact hI85 k84 _ hL78 _ _ _ hW hS (lv_sub hl [1, 2, 3, 4, 5, 6, 7, 0] rfl)
          have hd := hj72
          refine lv_if_eq (pc := 82) (tgt := 91) hx hb dX4_after_82 (by decide) (fun c75 => ?_) (fun c75 => ?_)
          · have hd := wt_it hd c75
            refine lv_iload_n (pc := 91) hx hb dX4_after_91 rfl (lv_at hl 4 rfl) ?_
            exact hX74 a1 (Option.some.inj hd) _ _ _ hW hS (lv_sub hl [2, 3, 4, 5, 6, 1, 0] rfl)
          · have hd := wt_if hd c75
            refine lv_iload_n (pc := 85) hx hb dX4_after_85 rfl (lv_at hl 4 rfl) ?_
            refine lv_iconst (pc := 86) (v := 1) hx hb dX4_after_86 (by decide) ?_
            refine lv_iadd (pc := 87) hx hb dX4_after_87 ?_
            refine lv_goto (pc := 88) (tgt := 92) hx hb dX4_after_88 (by decide) ?_
            exact hX74 (a1 + (1 : Int32)) (Option.some.inj hd) _ _ _ hW hS (lv_sub hl [2, 3, 4, 5, 6, 1, 0] rfl)
        · have hd := wt_if hd c70
          refine lv_iconst (pc := 71) (v := 0) hx hb dX4_after_71 (by decide) ?_
          exact mr_iret hx hb hr rfl hlocks (wt_p1 hd) (wt_p2 hd) hW hK hS dX4_after_72
      have hd := hj64
      refine lv_if_ne (pc := 56) (tgt := 63) hx hb dX4_after_56 (by decide) (fun c67 => ?_) (fun c67 => ?_)
      · have hd := wt_if hd c67
        refine lv_iconst (pc := 63) (v := 0) hx hb dX4_after_63 (by decide) ?_
        exact hX66 (0 : Int32) (Option.some.inj hd) _ _ _ hW hS hl
      · have hd := wt_it hd c67
        refine lv_iconst (pc := 59) (v := 1) hx hb dX4_after_59 (by decide) ?_
        refine lv_goto (pc := 60) (tgt := 64) hx hb dX4_after_60 (by decide) ?_
        exact hX66 (1 : Int32) (Option.some.inj hd) _ _ _ hW hS hl
  have hd := hj5
  refine lv_if_eq (pc := 13) (tgt := 37) hx hb dX4_after_13 (by decide) (fun c8 => ?_) (fun c8 => ?_)
  · have hd := wt_it hd c8
    exact hX7 () (Option.some.inj hd) _ _ _ hW hS hl
  · have hd := wt_if hd c8
    refine lv_iload_n (pc := 16) hx hb dX4_after_16 rfl (lv_at hl 2 rfl) ?_
    refine lv_iconst (pc := 17) (v := 0) hx hb dX4_after_17 (by decide) ?_
    refine lv_sipush (pc := 18) (v := 9999) hx hb dX4_after_18 (by decide) ?_
    obtain ⟨w9, hc10, hd⟩ := wt_bd_o hd
    refine kX4_in (pc := 21) hx hb hml hown hts hK hW hS hc10 hl.1 (Nat.le_of_ble_eq_true rfl) ⟨Nat.le_of_ble_eq_true rfl, Nat.le_of_ble_eq_true rfl⟩ ⟨Nat.le_refl _, Nat.le_refl _⟩ dX4_after_21 (fun H locs hW hS => ?_)
    refine lv_if_eq (pc := 24) (tgt := 37) hx hb dX4_after_24 (by decide) (fun c11 => ?_) (fun c11 => ?_)
    · have hd := wt_it hd c11
      exact hX7 () (Option.some.inj hd) _ _ _ hW hS hl
    · have hd := wt_if hd c11
      refine lv_iload_n (pc := 27) hx hb dX4_after_27 rfl (lv_at hl 3 rfl) ?_
      refine lv_iconst (pc := 28) (v := 0) hx hb dX4_after_28 (by decide) ?_
      refine lv_bipush (pc := 29) (v := 60) hx hb dX4_after_29 (by decide) ?_
      obtain ⟨w12, hc13, hd⟩ := wt_bd_o hd
      refine kX4_in (pc := 31) hx hb hml hown hts hK hW hS hc13 hl.1 (Nat.le_of_ble_eq_true rfl) ⟨Nat.le_of_ble_eq_true rfl, Nat.le_of_ble_eq_true rfl⟩ ⟨Nat.le_refl _, Nat.le_refl _⟩ dX4_after_31 (fun H locs hW hS => ?_)
      refine lv_if_ne (pc := 34) (tgt := 41) hx hb dX4_after_34 (by decide) (fun c14 => ?_) (fun c14 => ?_)
      · have hd := wt_if hd c14
        refine lv_iconst (pc := 41) (v := 0) hx hb dX4_after_41 (by decide) ?_
        refine lv_iconst (pc := 42) (v := 1) hx hb dX4_after_42 (by decide) ?_
        obtain ⟨w15, hc16, hd⟩ := wt_bd_o hd
        refine kX4_bad (pc := 43) hx hb hml hown hts hK hJ hW hS hc16 hl.1 (Nat.le_of_ble_eq_true rfl) ⟨Nat.le_of_ble_eq_true rfl, Nat.le_of_ble_eq_true rfl⟩ ⟨Nat.le_refl _, Nat.le_refl _⟩ dX4_after_43 (fun H locs hW hS => ?_)
        refine lv_if_ne (pc := 46) (tgt := 71) hx hb dX4_after_46 (by decide) (fun c17 => ?_) (fun c17 => ?_)
        · have hd := wt_if hd c17
          refine lv_iconst (pc := 71) (v := 0) hx hb dX4_after_71 (by decide) ?_
          have hd := wt_rs_r (Option.some.inj hd) hq6
          exact mr_iret hx hb hr rfl hlocks (wt_p1 hd) (wt_p2 hd) hW hK hS dX4_after_72
        · have hd := wt_it hd c17
          refine lv_aload_n (pc := 49) hx hb dX4_after_49 rfl (lv_at hl 0 rfl) ?_
          refine lv_aload_n (pc := 50) hx hb dX4_after_50 rfl (lv_at hl 0 rfl) ?_
          refine mr_get (pc := 51) (k := 13) (v := .ref (X.1.2.1 13)) hx hb hts hown hK hW (by decide) rfl q1542 dX4_after_51 ?_
          refine lv_iload_n (pc := 54) hx hb dX4_after_54 rfl (lv_at hl 1 rfl) ?_
          obtain ⟨h18, hd⟩ := wt_ck_o hd
          refine mr_ald (pc := 55) (k := 13) hx hb hK hW rfl h18 dX4_after_55 ?_
          obtain ⟨w19, hj20, hq21⟩ := wt_bd_o hd
          have hX22 : ∀ w19_ : Int32, w19_ = w19 → ∀ (H : Heap) (locs : List Loc) (ls : Array Slot), mW X w15.2 H → va_S (mA lo hi) s_.heap H locs → lv_has ls 9 [(0, .ref X.1.1), (1, .int a0), (2, .int a1), (3, .int a2), (4, .int a3)] → W p_ l e_ (headSpec (ws_ yX4_after cX4_after 9 (some .int)) ({ frames := 1, cells := 0, slots := 0, locals := 25 })).room s_ m_ ([.ref X.1.1, .int a0, .int a1, .int a2, .int a3] : List Value).toArray below_ meth_ c_ H locs 0 0 (MQ below_ (mQi X out_.1 out_.2 (mA lo hi)) ([.ref X.1.1, .int a0, .int a1, .int a2, .int a3] : List Value).toArray s_ 0 0 (mA lo hi)) (F0 m_ 64 ls [.int w19_, .ref X.1.1]) := by
            intro w19_ hw_
            have hd := hq21
            subst hw_
            clear hj20 hq21
            intro H locs ls hW hS hl
            refine lv_iconst (pc := 64) (v := 1) hx hb dX4_after_64 (by decide) ?_
            obtain ⟨w24, hc25, hd⟩ := wt_bd_o hd
            refine kX4_bad (pc := 65) hx hb hml hown hts hK hJ hW hS hc25 hl.1 (Nat.le_of_ble_eq_true rfl) ⟨Nat.le_of_ble_eq_true rfl, Nat.le_of_ble_eq_true rfl⟩ ⟨Nat.le_refl _, Nat.le_refl _⟩ dX4_after_65 (fun H locs hW hS => ?_)
            refine lv_if_eq (pc := 68) (tgt := 73) hx hb dX4_after_68 (by decide) (fun c26 => ?_) (fun c26 => ?_)
            · have hd := wt_it hd c26
              refine lv_iconst (pc := 73) (v := 0) hx hb dX4_after_73 (by decide) ?_
              refine lv_istore (pc := 74) (lv' := [(5, .int (0 : Int32)), (0, .ref X.1.1), (1, .int a0), (2, .int a1), (3, .int a2), (4, .int a3)]) hx hb dX4_after_74 hl (by decide) rfl (fun ls hl => ?_)
              refine lv_ldc (pc := 76) hx hb hown (hts _ q1745) dX4_after_76 ?_
              refine lv_istore (pc := 78) (lv' := [(6, .int (100000 : Int32)), (5, .int (0 : Int32)), (0, .ref X.1.1), (1, .int a0), (2, .int a1), (3, .int a2), (4, .int a3)]) hx hb dX4_after_78 hl (by decide) rfl (fun ls hl => ?_)
              refine lv_iload (pc := 80) hx hb dX4_after_80 (lv_at hl 6 rfl) ?_
              obtain ⟨w27, hj28, hq29⟩ := wt_bd_o hd
              have hX30 : ∀ w27_ : Int32, w27_ = w27 → ∀ (H : Heap) (locs : List Loc) (ls : Array Slot), mW X w24.2 H → va_S (mA lo hi) s_.heap H locs → lv_has ls 9 [(0, .ref X.1.1), (1, .int a0), (2, .int a1), (3, .int a2), (4, .int a3), (5, .int (0 : Int32)), (6, .int (100000 : Int32))] → W p_ l e_ (headSpec (ws_ yX4_after cX4_after 9 (some .int)) ({ frames := 1, cells := 0, slots := 0, locals := 25 })).room s_ m_ ([.ref X.1.1, .int a0, .int a1, .int a2, .int a3] : List Value).toArray below_ meth_ c_ H locs 0 0 (MQ below_ (mQi X out_.1 out_.2 (mA lo hi)) ([.ref X.1.1, .int a0, .int a1, .int a2, .int a3] : List Value).toArray s_ 0 0 (mA lo hi)) (F0 m_ 92 ls [.int w27_]) := by
                intro w27_ hw_
                have hd := hq29
                subst hw_
                clear hj28 hq29
                intro H locs ls hW hS hl
                refine lv_istore (pc := 92) (lv' := [(7, .int w27_), (0, .ref X.1.1), (1, .int a0), (2, .int a1), (3, .int a2), (4, .int a3), (5, .int (0 : Int32)), (6, .int (100000 : Int32))]) hx hb dX4_after_92 hl (by decide) rfl (fun ls hl => ?_)
                obtain ⟨w33, hL34, hq35⟩ := wt_bd_o hd
                have hX36 : ∀ w33_ : Int32, w33_ = w33 → ∀ (H : Heap) (locs : List Loc) (ls : Array Slot), mW X w24.2 H → va_S (mA lo hi) s_.heap H locs → lv_has ls 9 [(0, .ref X.1.1), (1, .int a0), (2, .int a1), (3, .int a2), (4, .int a3), (5, .int w33_)] → W p_ l e_ (headSpec (ws_ yX4_after cX4_after 9 (some .int)) ({ frames := 1, cells := 0, slots := 0, locals := 25 })).room s_ m_ ([.ref X.1.1, .int a0, .int a1, .int a2, .int a3] : List Value).toArray below_ meth_ c_ H locs 0 0 (MQ below_ (mQi X out_.1 out_.2 (mA lo hi)) ([.ref X.1.1, .int a0, .int a1, .int a2, .int a3] : List Value).toArray s_ 0 0 (mA lo hi)) (F0 m_ 139 ls []) := by
                  intro w33_ hw_
                  have hd := hq35
                  subst hw_
                  clear hL34 hq35
                  intro H locs ls hW hS hl
                  refine lv_iload (pc := 139) hx hb dX4_after_139 (lv_at hl 4 rfl) ?_
                  obtain ⟨w48, hj49, hq50⟩ := wt_bd_o hd
                  have hX51 : ∀ w48_ : Int32, w48_ = w48 → ∀ (H : Heap) (locs : List Loc) (ls : Array Slot), mW X w24.2 H → va_S (mA lo hi) s_.heap H locs → lv_has ls 9 [(0, .ref X.1.1), (1, .int a0), (2, .int a1), (3, .int a2)] → W p_ l e_ (headSpec (ws_ yX4_after cX4_after 9 (some .int)) ({ frames := 1, cells := 0, slots := 0, locals := 25 })).room s_ m_ ([.ref X.1.1, .int a0, .int a1, .int a2, .int a3] : List Value).toArray below_ meth_ c_ H locs 0 0 (MQ below_ (mQi X out_.1 out_.2 (mA lo hi)) ([.ref X.1.1, .int a0, .int a1, .int a2, .int a3] : List Value).toArray s_ 0 0 (mA lo hi)) (F0 m_ 153 ls [.int w48_]) := by
                    intro w48_ hw_
                    have hd := hq50
                    subst hw_
                    clear hj49 hq50
                    intro H locs ls hW hS hl
                    refine lv_istore (pc := 153) (lv' := [(8, .int w48_), (0, .ref X.1.1), (1, .int a0), (2, .int a1), (3, .int a2)]) hx hb dX4_after_153 hl (by decide) rfl (fun ls hl => ?_)
                    refine lv_iload (pc := 155) hx hb dX4_after_155 (lv_at hl 0 rfl) ?_
                    refine lv_iconst (pc := 157) (v := 0) hx hb dX4_after_157 (by decide) ?_
                    refine lv_ldcw (pc := 158) hx hb hown (hts _ q1950) dX4_after_158 ?_
                    obtain ⟨w53, hc54, hd⟩ := wt_bd_o hd
                    refine kX4_in (pc := 161) hx hb hml hown hts hK hW hS hc54 hl.1 (Nat.le_of_ble_eq_true rfl) ⟨Nat.le_of_ble_eq_true rfl, Nat.le_of_ble_eq_true rfl⟩ ⟨Nat.le_refl _, Nat.le_refl _⟩ dX4_after_161 (fun H locs hW hS => ?_)
                    refine lv_if_eq (pc := 164) (tgt := 184) hx hb dX4_after_164 (by decide) (fun c55 => ?_) (fun c55 => ?_)
                    · have hd := wt_it hd c55
                      refine lv_iconst (pc := 184) (v := -1) hx hb dX4_after_184 (by decide) ?_
                      have hd := wt_rs_r (Option.some.inj hd) hq6
                      exact mr_iret hx hb hr rfl hlocks (wt_p1 hd) (wt_p2 hd) hW hK hS dX4_after_185
                    · have hd := wt_if hd c55
                      refine lv_aload_n (pc := 167) hx hb dX4_after_167 rfl (lv_at hl 1 rfl) ?_
                      refine lv_iload (pc := 168) hx hb dX4_after_168 (lv_at hl 0 rfl) ?_
                      refine lv_iload_n (pc := 170) hx hb dX4_after_170 rfl (lv_at hl 2 rfl) ?_
                      refine lv_iload_n (pc := 171) hx hb dX4_after_171 rfl (lv_at hl 4 rfl) ?_
                      obtain ⟨w56, hc57, hd⟩ := wt_bd_o hd
                      refine kX4_leftBehind (pc := 172) hx hb hml hown hts hK hJ hW hS hc57 hl.1 (Nat.le_of_ble_eq_true rfl) ⟨Nat.le_of_ble_eq_true rfl, Nat.le_of_ble_eq_true rfl⟩ ⟨Nat.le_refl _, Nat.le_refl _⟩ dX4_after_172 (fun H locs hW hS => ?_)
                      refine lv_iload_n (pc := 175) hx hb dX4_after_175 rfl (lv_at hl 3 rfl) ?_
                      refine lv_icmp_ne (pc := 176) (tgt := 184) hx hb dX4_after_176 (by decide) (fun c58 => ?_) (fun c58 => ?_)
                      · have hd := wt_if hd c58
                        refine lv_iconst (pc := 184) (v := -1) hx hb dX4_after_184 (by decide) ?_
                        have hd := wt_rs_r (Option.some.inj hd) hq6
                        exact mr_iret hx hb hr rfl hlocks (wt_p1 hd) (wt_p2 hd) hW hK hS dX4_after_185
                      · have hd := wt_it hd c58
                        refine lv_iload (pc := 179) hx hb dX4_after_179 (lv_at hl 0 rfl) ?_
                        refine lv_goto (pc := 181) (tgt := 185) hx hb dX4_after_181 (by decide) ?_
                        have hd := wt_rs_r (Option.some.inj hd) hq6
                        exact mr_iret hx hb hr rfl hlocks (wt_p1 hd) (wt_p2 hd) hW hK hS dX4_after_185
                  have hd := hj49
                  refine lv_if_eq (pc := 141) (tgt := 151) hx hb dX4_after_141 (by decide) (fun c52 => ?_) (fun c52 => ?_)
                  · have hd := wt_it hd c52
                    refine lv_iload (pc := 151) hx hb dX4_after_151 (lv_at hl 5 rfl) ?_
                    exact hX51 w33_ (Option.some.inj hd) _ _ _ hW hS (lv_sub hl [0, 1, 2, 3] rfl)
                  · have hd := wt_if hd c52
                    refine lv_iload (pc := 144) hx hb dX4_after_144 (lv_at hl 5 rfl) ?_
                    refine lv_iconst (pc := 146) (v := 1) hx hb dX4_after_146 (by decide) ?_
                    refine lv_isub (pc := 147) hx hb dX4_after_147 ?_
                    refine lv_goto (pc := 148) (tgt := 153) hx hb dX4_after_148 (by decide) ?_
                    exact hX51 (w33_ - (1 : Int32)) (Option.some.inj hd) _ _ _ hW hS (lv_sub hl [0, 1, 2, 3] rfl)
                have hI41 : ∀ (k40 : Nat) (v32 : Int32 × Int32), wt_wh (bX4_after_1 a0 a2 w24 w27_) k40 v32 = some w33 → ∀ (H : Heap) (locs : List Loc) (ls : Array Slot), mW X w24.2 H → va_S (mA lo hi) s_.heap H locs → lv_has ls 9 [(0, .ref X.1.1), (1, .int a0), (2, .int a1), (3, .int a2), (4, .int a3), (5, .int v32.1), (6, .int v32.2), (7, .int w27_)] → W p_ l e_ (headSpec (ws_ yX4_after cX4_after 9 (some .int)) ({ frames := 1, cells := 0, slots := 0, locals := 25 })).room s_ m_ ([.ref X.1.1, .int a0, .int a1, .int a2, .int a3] : List Value).toArray below_ meth_ c_ H locs 0 0 (MQ below_ (mQi X out_.1 out_.2 (mA lo hi)) ([.ref X.1.1, .int a0, .int a1, .int a2, .int a3] : List Value).toArray s_ 0 0 (mA lo hi)) (F0 m_ 94 ls []) := by
                  intro k40
                  induction k40 with
                  | zero => intro v32 hd; exact absurd hd wt_wh_z
                  | succ k40 ih38 =>
                    intro v32 hd
                    intro H locs ls hW hS hl
                    obtain ⟨r39, hd, hk37⟩ := wt_wh_o hd
                    unfold bX4_after_1 at hd
                    refine lv_iload (pc := 94) hx hb dX4_after_94 (lv_at hl 5 rfl) ?_
                    refine lv_iload (pc := 96) hx hb dX4_after_96 (lv_at hl 6 rfl) ?_
                    refine lv_icmp_ge (pc := 98) (tgt := 139) hx hb dX4_after_98 (by decide) (fun c42 => ?_) (fun c42 => ?_)
                    · have hd := wt_it hd c42
                      exact hX36 v32.1 (wt_exit hd hk37) _ _ _ hW hS (lv_sub hl [0, 1, 2, 3, 4, 5] rfl)
                    · have hd := wt_if hd c42
                      refine lv_iload (pc := 101) hx hb dX4_after_101 (lv_at hl 5 rfl) ?_
                      refine lv_iload (pc := 103) hx hb dX4_after_103 (lv_at hl 6 rfl) ?_
                      refine lv_iadd (pc := 105) hx hb dX4_after_105 ?_
                      refine lv_iconst (pc := 106) (v := 2) hx hb dX4_after_106 (by decide) ?_
                      refine lv_idiv (pc := 107) hx hb dX4_after_107 (by decide) ?_
                      obtain ⟨n43, en43, hd⟩ := wt_lt_o hd
                      refine lv_tope en43 ?_
                      refine lv_istore (pc := 108) (lv' := [(8, .int n43), (0, .ref X.1.1), (1, .int a0), (2, .int a1), (3, .int a2), (4, .int a3), (5, .int v32.1), (6, .int v32.2), (7, .int w27_)]) hx hb dX4_after_108 hl (by decide) rfl (fun ls hl => ?_)
                      refine lv_aload_n (pc := 110) hx hb dX4_after_110 rfl (lv_at hl 1 rfl) ?_
                      refine lv_iload (pc := 111) hx hb dX4_after_111 (lv_at hl 0 rfl) ?_
                      refine lv_iload_n (pc := 113) hx hb dX4_after_113 rfl (lv_at hl 2 rfl) ?_
                      refine lv_iload_n (pc := 114) hx hb dX4_after_114 rfl (lv_at hl 4 rfl) ?_
                      obtain ⟨w44, hc45, hd⟩ := wt_bd_o hd
                      refine kX4_leftBehind (pc := 115) hx hb hml hown hts hK hJ hW hS hc45 hl.1 (Nat.le_of_ble_eq_true rfl) ⟨Nat.le_of_ble_eq_true rfl, Nat.le_of_ble_eq_true rfl⟩ ⟨Nat.le_refl _, Nat.le_refl _⟩ dX4_after_115 (fun H locs hW hS => ?_)
                      refine lv_iload (pc := 118) hx hb dX4_after_118 (lv_at hl 8 rfl) ?_
                      refine lv_icmp_lt (pc := 120) (tgt := 130) hx hb dX4_after_120 (by decide) (fun c46 => ?_) (fun c46 => ?_)
                      · have hd := wt_it hd c46
                        refine lv_iload (pc := 130) hx hb dX4_after_130 (lv_at hl 0 rfl) ?_
                        refine lv_iconst (pc := 132) (v := 1) hx hb dX4_after_132 (by decide) ?_
                        refine lv_iadd (pc := 133) hx hb dX4_after_133 ?_
                        obtain ⟨n47, en47, hd⟩ := wt_lt_o hd
                        refine lv_tope en47 ?_
                        refine lv_istore (pc := 134) (lv' := [(5, .int n47), (8, .int n43), (0, .ref X.1.1), (1, .int a0), (2, .int a1), (3, .int a2), (4, .int a3), (6, .int v32.2), (7, .int w27_)]) hx hb dX4_after_134 hl (by decide) rfl (fun ls hl => ?_)
                        refine lv_goto (pc := 136) (tgt := 94) hx hb dX4_after_136 (by decide) ?_
                        exact ih38 _ (wt_again hd hk37) _ _ _ hW hS (lv_sub hl [2, 3, 4, 5, 6, 0, 7, 8] rfl)
                      · have hd := wt_if hd c46
                        refine lv_iload (pc := 123) hx hb dX4_after_123 (lv_at hl 0 rfl) ?_
                        refine lv_istore (pc := 125) (lv' := [(6, .int n43), (8, .int n43), (0, .ref X.1.1), (1, .int a0), (2, .int a1), (3, .int a2), (4, .int a3), (5, .int v32.1), (7, .int w27_)]) hx hb dX4_after_125 hl (by decide) rfl (fun ls hl => ?_)
                        refine lv_goto (pc := 127) (tgt := 136) hx hb dX4_after_127 (by decide) ?_
                        refine lv_goto (pc := 136) (tgt := 94) hx hb dX4_after_136 (by decide) ?_
                        exact ih38 _ (wt_again hd hk37) _ _ _ hW hS (lv_sub hl [2, 3, 4, 5, 6, 7, 0, 8] rfl)
                obtain ⟨k40, hL34⟩ := wt_whC_o hL34
                exact hI41 k40 _ hL34 _ _ _ hW hS (lv_sub hl [1, 2, 3, 4, 5, 6, 7, 0] rfl)
              have hd := hj28
              refine lv_if_eq (pc := 82) (tgt := 91) hx hb dX4_after_82 (by decide) (fun c31 => ?_) (fun c31 => ?_)
              · have hd := wt_it hd c31
                refine lv_iload_n (pc := 91) hx hb dX4_after_91 rfl (lv_at hl 4 rfl) ?_
                exact hX30 a1 (Option.some.inj hd) _ _ _ hW hS (lv_sub hl [2, 3, 4, 5, 6, 1, 0] rfl)
              · have hd := wt_if hd c31
                refine lv_iload_n (pc := 85) hx hb dX4_after_85 rfl (lv_at hl 4 rfl) ?_
                refine lv_iconst (pc := 86) (v := 1) hx hb dX4_after_86 (by decide) ?_
                refine lv_iadd (pc := 87) hx hb dX4_after_87 ?_
                refine lv_goto (pc := 88) (tgt := 92) hx hb dX4_after_88 (by decide) ?_
                exact hX30 (a1 + (1 : Int32)) (Option.some.inj hd) _ _ _ hW hS (lv_sub hl [2, 3, 4, 5, 6, 1, 0] rfl)
            · have hd := wt_if hd c26
              refine lv_iconst (pc := 71) (v := 0) hx hb dX4_after_71 (by decide) ?_
              have hd := wt_rs_r (Option.some.inj hd) hq6
              exact mr_iret hx hb hr rfl hlocks (wt_p1 hd) (wt_p2 hd) hW hK hS dX4_after_72
          have hd := hj20
          refine lv_if_ne (pc := 56) (tgt := 63) hx hb dX4_after_56 (by decide) (fun c23 => ?_) (fun c23 => ?_)
          · have hd := wt_if hd c23
            refine lv_iconst (pc := 63) (v := 0) hx hb dX4_after_63 (by decide) ?_
            exact hX22 (0 : Int32) (Option.some.inj hd) _ _ _ hW hS hl
          · have hd := wt_it hd c23
            refine lv_iconst (pc := 59) (v := 1) hx hb dX4_after_59 (by decide) ?_
            refine lv_goto (pc := 60) (tgt := 64) hx hb dX4_after_60 (by decide) ?_
            exact hX22 (1 : Int32) (Option.some.inj hd) _ _ _ hW hS hl
      · have hd := wt_it hd c14
        exact hX7 () (Option.some.inj hd) _ _ _ hW hS hl
noncomputable def dX4_seat (σ : MSt) (a0 : Int32) : Option (Int32 × MSt) :=
  wt_lt (m_sF σ 0 (0 : Int32)) fun σ1 => wt_bd (dX4_in a0 (0 : Int32) (1023 : Int32)) fun w2 => wt_bd (if w2 = 0 then (some (1 : Int32)) else (some (0 : Int32))) fun w4 => wt_bd (dX4_bad σ1 w4 (1 : Int32)) fun w9 => if w9.1 = 0 then (if (w9.2.1 29) = (40 : Int32) then (some ((-1 : Int32), w9.2)) else (wt_ck (vp_in (w9.2.1 29) 40) <| wt_lt (m_sA w9.2 33 (w9.2.1 29).toNatClampNeg a0) fun σ14 => wt_lt (m_sF σ14 29 ((σ14.1 29) + (1 : Int32))) fun σ15 => some ((σ15.1 29), σ15))) else (some ((0 : Int32), w9.2))
set_option maxHeartbeats 4000000 in
theorem wX4_seat (l : Launch) {X : MPar} {lo hi : Nat} (hJ : mJ X lo hi) {σ : MSt} {a0 : Int32} {out_ : Int32 × MSt} (hd : dX4_seat σ a0 = some out_) : Met l yX4_seat (ws_ yX4_seat cX4_seat 2 (some .int)) ({ frames := 1, cells := 0, slots := 0, locals := 22 }) (mP X σ [.ref X.1.1, .int a0]) (mQi X out_.1 out_.2 (mA lo hi)) 0 0 (mA lo hi) := by
  refine Met.ofW (cc := cX4_seat) (maxL := 2) (ret := (some .int)) (by decide) rfl ?_
  intro p_ e_ s_ m_ args_ below_ meth_ c_ s₁_ B hml hv
  obtain ⟨rfl, hW, hK⟩ := hv
  have hx := B.exec
  have hb := B.bytes
  have hr := B.returns
  have hts := atoms_spec (ws := (ws_ yX4_seat cX4_seat 2 (some .int))) B.pre
  have hts : ∀ w ∈ lw_all, w.before _ s_ = true := fun w h => hts w (List.mem_cons_of_mem _ h)
  have hown : s_.vm.findClass RX4 = some m_.cls := findClass_of_methodNamed B.named
  have hlocks := B.notSynchronized
  have hS : va_S (mA lo hi) s_.heap s_.heap [] := va_S.rf
  have hl := lv_entry ([.ref X.1.1, .int a0]) (n := 2) (Nat.le_of_ble_eq_true rfl)
  rw [lg_entry_eq]
  generalize (lg_sl ([.ref X.1.1, .int a0]) ++ List.replicate (2 - (lg_sl ([.ref X.1.1, .int a0])).length) Slot.unset).toArray = ls at hl ⊢
  have hl : lv_has ls 2 [(0, .ref X.1.1), (1, .int a0)] := hl
  unfold dX4_seat at hd
  refine lv_aload_n (pc := 0) hx hb dX4_seat_0 rfl (lv_at hl 0 rfl) ?_
  refine lv_iconst (pc := 1) (v := 0) hx hb dX4_seat_1 (by decide) ?_
  obtain ⟨σ1, eσ1, hd⟩ := wt_lt_o hd
  refine mr_put (pc := 2) (k := 0) hx hb hts hown hK hW hJ hS (by decide) rfl eσ1 q1529 dX4_seat_2 (fun H locs hW hS => ?_)
  refine lv_aload_n (pc := 5) hx hb dX4_seat_5 rfl (lv_at hl 0 rfl) ?_
  refine lv_iload_n (pc := 6) hx hb dX4_seat_6 rfl (lv_at hl 1 rfl) ?_
  refine lv_iconst (pc := 7) (v := 0) hx hb dX4_seat_7 (by decide) ?_
  refine lv_sipush (pc := 8) (v := 1023) hx hb dX4_seat_8 (by decide) ?_
  obtain ⟨w2, hc3, hd⟩ := wt_bd_o hd
  refine kX4_in (pc := 11) hx hb hml hown hts hK hW hS hc3 hl.1 (Nat.le_of_ble_eq_true rfl) ⟨Nat.le_of_ble_eq_true rfl, Nat.le_of_ble_eq_true rfl⟩ ⟨Nat.le_refl _, Nat.le_refl _⟩ dX4_seat_11 (fun H locs hW hS => ?_)
  obtain ⟨w4, hj5, hq6⟩ := wt_bd_o hd
  have hX7 : ∀ w4_ : Int32, w4_ = w4 → ∀ (H : Heap) (locs : List Loc) (ls : Array Slot), mW X σ1 H → va_S (mA lo hi) s_.heap H locs → lv_has ls 2 [(0, .ref X.1.1), (1, .int a0)] → W p_ l e_ (headSpec (ws_ yX4_seat cX4_seat 2 (some .int)) ({ frames := 1, cells := 0, slots := 0, locals := 22 })).room s_ m_ ([.ref X.1.1, .int a0] : List Value).toArray below_ meth_ c_ H locs 0 0 (MQ below_ (mQi X out_.1 out_.2 (mA lo hi)) ([.ref X.1.1, .int a0] : List Value).toArray s_ 0 0 (mA lo hi)) (F0 m_ 22 ls [.int w4_, .ref X.1.1]) := by
    intro w4_ hw_
    have hd := hq6
    subst hw_
    clear hj5 hq6
    intro H locs ls hW hS hl
    refine lv_iconst (pc := 22) (v := 1) hx hb dX4_seat_22 (by decide) ?_
    obtain ⟨w9, hc10, hd⟩ := wt_bd_o hd
    refine kX4_bad (pc := 23) hx hb hml hown hts hK hJ hW hS hc10 hl.1 (Nat.le_of_ble_eq_true rfl) ⟨Nat.le_of_ble_eq_true rfl, Nat.le_of_ble_eq_true rfl⟩ ⟨Nat.le_refl _, Nat.le_refl _⟩ dX4_seat_23 (fun H locs hW hS => ?_)
    refine lv_if_eq (pc := 26) (tgt := 31) hx hb dX4_seat_26 (by decide) (fun c11 => ?_) (fun c11 => ?_)
    · have hd := wt_it hd c11
      refine lv_aload_n (pc := 31) hx hb dX4_seat_31 rfl (lv_at hl 0 rfl) ?_
      refine mr_get (pc := 32) (k := 29) (v := .int ((w9.2.1 29))) hx hb hts hown hK hW (by decide) rfl q1558 dX4_seat_32 ?_
      refine lv_bipush (pc := 35) (v := 40) hx hb dX4_seat_35 (by decide) ?_
      refine lv_icmp_ne (pc := 37) (tgt := 42) hx hb dX4_seat_37 (by decide) (fun c12 => ?_) (fun c12 => ?_)
      · have hd := wt_if hd c12
        refine lv_aload_n (pc := 42) hx hb dX4_seat_42 rfl (lv_at hl 0 rfl) ?_
        refine mr_get (pc := 43) (k := 33) (v := .ref (X.1.2.1 33)) hx hb hts hown hK hW (by decide) rfl q1562 dX4_seat_43 ?_
        refine lv_aload_n (pc := 46) hx hb dX4_seat_46 rfl (lv_at hl 0 rfl) ?_
        refine mr_get (pc := 47) (k := 29) (v := .int ((w9.2.1 29))) hx hb hts hown hK hW (by decide) rfl q1558 dX4_seat_47 ?_
        refine lv_iload_n (pc := 50) hx hb dX4_seat_50 rfl (lv_at hl 1 rfl) ?_
        obtain ⟨h13, hd⟩ := wt_ck_o hd
        obtain ⟨σ14, eσ14, hd⟩ := wt_lt_o hd
        refine mr_ast (pc := 51) (k := 33) hx hb hK hW hJ hS rfl h13 eσ14 dX4_seat_51 (fun H locs hW hS => ?_)
        refine lv_aload_n (pc := 52) hx hb dX4_seat_52 rfl (lv_at hl 0 rfl) ?_
        refine lv_dup (pc := 53) hx hb dX4_seat_53 rfl ?_
        refine mr_get (pc := 54) (k := 29) (v := .int ((σ14.1 29))) hx hb hts hown hK hW (by decide) rfl q1558 dX4_seat_54 ?_
        refine lv_iconst (pc := 57) (v := 1) hx hb dX4_seat_57 (by decide) ?_
        refine lv_iadd (pc := 58) hx hb dX4_seat_58 ?_
        obtain ⟨σ15, eσ15, hd⟩ := wt_lt_o hd
        refine mr_put (pc := 59) (k := 29) hx hb hts hown hK hW hJ hS (by decide) rfl eσ15 q1558 dX4_seat_59 (fun H locs hW hS => ?_)
        refine lv_aload_n (pc := 62) hx hb dX4_seat_62 rfl (lv_at hl 0 rfl) ?_
        refine mr_get (pc := 63) (k := 29) (v := .int ((σ15.1 29))) hx hb hts hown hK hW (by decide) rfl q1558 dX4_seat_63 ?_
        exact mr_iret hx hb hr rfl hlocks (wt_p1 hd) (wt_p2 hd) hW hK hS dX4_seat_66
      · have hd := wt_it hd c12
        refine lv_iconst (pc := 40) (v := -1) hx hb dX4_seat_40 (by decide) ?_
        exact mr_iret hx hb hr rfl hlocks (wt_p1 hd) (wt_p2 hd) hW hK hS dX4_seat_41
    · have hd := wt_if hd c11
      refine lv_iconst (pc := 29) (v := 0) hx hb dX4_seat_29 (by decide) ?_
      exact mr_iret hx hb hr rfl hlocks (wt_p1 hd) (wt_p2 hd) hW hK hS dX4_seat_30
  have hd := hj5
  refine lv_if_ne (pc := 14) (tgt := 21) hx hb dX4_seat_14 (by decide) (fun c8 => ?_) (fun c8 => ?_)
  · have hd := wt_if hd c8
    refine lv_iconst (pc := 21) (v := 0) hx hb dX4_seat_21 (by decide) ?_
    exact hX7 (0 : Int32) (Option.some.inj hd) _ _ _ hW hS hl
  · have hd := wt_it hd c8
    refine lv_iconst (pc := 17) (v := 1) hx hb dX4_seat_17 (by decide) ?_
    refine lv_goto (pc := 18) (tgt := 22) hx hb dX4_seat_18 (by decide) ?_
    exact hX7 (1 : Int32) (Option.some.inj hd) _ _ _ hW hS hl
noncomputable def bX4_onSeats_1 (σ : MSt) (a0 : Int32) (a1 : Int32) (v1 : Int32 × Int32) : Option ((Int32 × Int32) ⊕ (Int32)) :=
  if (σ.1 29) ≤ v1.2 then (some (.inr v1.1)) else (wt_ck (vp_in v1.2 40) <| wt_ck (vp_in v1.2 40) <| if ((((σ.2.1 33 v1.2.toNatClampNeg) >>> (a0 &&& 31)) &&& ((σ.2.1 33 v1.2.toNatClampNeg) >>> (a1 &&& 31))) &&& (1 : Int32)) = (1 : Int32) then (wt_lt ((v1.1 + (1 : Int32))) fun n17 => wt_lt (v1.2 + (1 : Int32)) fun n18 => some (.inl (n17, n18))) else (wt_lt ((v1.1 + (0 : Int32))) fun n15 => wt_lt (v1.2 + (1 : Int32)) fun n16 => some (.inl (n15, n16))))
noncomputable def dX4_onSeats (σ : MSt) (a0 : Int32) (a1 : Int32) : Option (Int32) :=
  wt_bd (wt_whC (bX4_onSeats_1 σ a0 a1) ((0 : Int32), (0 : Int32))) fun w2 => some w2
set_option maxHeartbeats 4000000 in
theorem wX4_onSeats (l : Launch) {X : MPar} {lo hi : Nat} (hJ : mJ X lo hi) {σ : MSt} {a0 : Int32} {a1 : Int32} {out_ : Int32} (hd : dX4_onSeats σ a0 a1 = some out_) : Met l yX4_onSeats (ws_ yX4_onSeats cX4_onSeats 5 (some .int)) ({ frames := 0, cells := 0, slots := 0, locals := 0 }) (mP X σ [.ref X.1.1, .int a0, .int a1]) (mQi X out_ σ (mA lo hi)) 0 0 (mA lo hi) := by
  refine Met.ofW (cc := cX4_onSeats) (maxL := 5) (ret := (some .int)) (by decide) rfl ?_
  intro p_ e_ s_ m_ args_ below_ meth_ c_ s₁_ B hml hv
  obtain ⟨rfl, hW, hK⟩ := hv
  have hx := B.exec
  have hb := B.bytes
  have hr := B.returns
  have hts := atoms_spec (ws := (ws_ yX4_onSeats cX4_onSeats 5 (some .int))) B.pre
  have hts : ∀ w ∈ lw_all, w.before _ s_ = true := fun w h => hts w (List.mem_cons_of_mem _ h)
  have hown : s_.vm.findClass RX4 = some m_.cls := findClass_of_methodNamed B.named
  have hlocks := B.notSynchronized
  have hS : va_S (mA lo hi) s_.heap s_.heap [] := va_S.rf
  have hl := lv_entry ([.ref X.1.1, .int a0, .int a1]) (n := 5) (Nat.le_of_ble_eq_true rfl)
  rw [lg_entry_eq]
  generalize (lg_sl ([.ref X.1.1, .int a0, .int a1]) ++ List.replicate (5 - (lg_sl ([.ref X.1.1, .int a0, .int a1])).length) Slot.unset).toArray = ls at hl ⊢
  have hl : lv_has ls 5 [(0, .ref X.1.1), (1, .int a0), (2, .int a1)] := hl
  unfold dX4_onSeats at hd
  refine lv_iconst (pc := 0) (v := 0) hx hb dX4_onSeats_0 (by decide) ?_
  refine lv_istore_n (pc := 1) (lv' := [(3, .int (0 : Int32)), (0, .ref X.1.1), (1, .int a0), (2, .int a1)]) hx hb dX4_onSeats_1 rfl hl (by decide) rfl (fun ls hl => ?_)
  refine lv_iconst (pc := 2) (v := 0) hx hb dX4_onSeats_2 (by decide) ?_
  refine lv_istore (pc := 3) (lv' := [(4, .int (0 : Int32)), (3, .int (0 : Int32)), (0, .ref X.1.1), (1, .int a0), (2, .int a1)]) hx hb dX4_onSeats_3 hl (by decide) rfl (fun ls hl => ?_)
  obtain ⟨w2, hL3, hq4⟩ := wt_bd_o hd
  have hX5 : ∀ w2_ : Int32, w2_ = w2 → ∀ (H : Heap) (locs : List Loc) (ls : Array Slot), mW X σ H → va_S (mA lo hi) s_.heap H locs → lv_has ls 5 [(3, .int w2_)] → W p_ l e_ (headSpec (ws_ yX4_onSeats cX4_onSeats 5 (some .int)) ({ frames := 0, cells := 0, slots := 0, locals := 0 })).room s_ m_ ([.ref X.1.1, .int a0, .int a1] : List Value).toArray below_ meth_ c_ H locs 0 0 (MQ below_ (mQi X out_ σ (mA lo hi)) ([.ref X.1.1, .int a0, .int a1] : List Value).toArray s_ 0 0 (mA lo hi)) (F0 m_ 53 ls []) := by
    intro w2_ hw_
    have hd := hq4
    subst hw_
    clear hL3 hq4
    intro H locs ls hW hS hl
    refine lv_iload_n (pc := 53) hx hb dX4_onSeats_53 rfl (lv_at hl 0 rfl) ?_
    exact mr_iret hx hb hr rfl hlocks (Option.some.inj hd) rfl hW hK hS dX4_onSeats_54
  have hI10 : ∀ (k9 : Nat) (v1 : Int32 × Int32), wt_wh (bX4_onSeats_1 σ a0 a1) k9 v1 = some w2 → ∀ (H : Heap) (locs : List Loc) (ls : Array Slot), mW X σ H → va_S (mA lo hi) s_.heap H locs → lv_has ls 5 [(0, .ref X.1.1), (1, .int a0), (2, .int a1), (3, .int v1.1), (4, .int v1.2)] → W p_ l e_ (headSpec (ws_ yX4_onSeats cX4_onSeats 5 (some .int)) ({ frames := 0, cells := 0, slots := 0, locals := 0 })).room s_ m_ ([.ref X.1.1, .int a0, .int a1] : List Value).toArray below_ meth_ c_ H locs 0 0 (MQ below_ (mQi X out_ σ (mA lo hi)) ([.ref X.1.1, .int a0, .int a1] : List Value).toArray s_ 0 0 (mA lo hi)) (F0 m_ 5 ls []) := by
    intro k9
    induction k9 with
    | zero => intro v1 hd; exact absurd hd wt_wh_z
    | succ k9 ih7 =>
      intro v1 hd
      intro H locs ls hW hS hl
      obtain ⟨r8, hd, hk6⟩ := wt_wh_o hd
      unfold bX4_onSeats_1 at hd
      refine lv_iload (pc := 5) hx hb dX4_onSeats_5 (lv_at hl 4 rfl) ?_
      refine lv_aload_n (pc := 7) hx hb dX4_onSeats_7 rfl (lv_at hl 0 rfl) ?_
      refine mr_get (pc := 8) (k := 29) (v := .int ((σ.1 29))) hx hb hts hown hK hW (by decide) rfl q1558 dX4_onSeats_8 ?_
      refine lv_icmp_ge (pc := 11) (tgt := 53) hx hb dX4_onSeats_11 (by decide) (fun c11 => ?_) (fun c11 => ?_)
      · have hd := wt_it hd c11
        exact hX5 v1.1 (wt_exit hd hk6) _ _ _ hW hS (lv_sub hl [3] rfl)
      · have hd := wt_if hd c11
        refine lv_iload_n (pc := 14) hx hb dX4_onSeats_14 rfl (lv_at hl 3 rfl) ?_
        refine lv_aload_n (pc := 15) hx hb dX4_onSeats_15 rfl (lv_at hl 0 rfl) ?_
        refine mr_get (pc := 16) (k := 33) (v := .ref (X.1.2.1 33)) hx hb hts hown hK hW (by decide) rfl q1562 dX4_onSeats_16 ?_
        refine lv_iload (pc := 19) hx hb dX4_onSeats_19 (lv_at hl 4 rfl) ?_
        obtain ⟨h12, hd⟩ := wt_ck_o hd
        refine mr_ald (pc := 21) (k := 33) hx hb hK hW rfl h12 dX4_onSeats_21 ?_
        refine lv_iload_n (pc := 22) hx hb dX4_onSeats_22 rfl (lv_at hl 1 rfl) ?_
        refine lv_ishr (pc := 23) hx hb dX4_onSeats_23 ?_
        refine lv_aload_n (pc := 24) hx hb dX4_onSeats_24 rfl (lv_at hl 0 rfl) ?_
        refine mr_get (pc := 25) (k := 33) (v := .ref (X.1.2.1 33)) hx hb hts hown hK hW (by decide) rfl q1562 dX4_onSeats_25 ?_
        refine lv_iload (pc := 28) hx hb dX4_onSeats_28 (lv_at hl 4 rfl) ?_
        obtain ⟨h13, hd⟩ := wt_ck_o hd
        refine mr_ald (pc := 30) (k := 33) hx hb hK hW rfl h13 dX4_onSeats_30 ?_
        refine lv_iload_n (pc := 31) hx hb dX4_onSeats_31 rfl (lv_at hl 2 rfl) ?_
        refine lv_ishr (pc := 32) hx hb dX4_onSeats_32 ?_
        refine lv_iand (pc := 33) hx hb dX4_onSeats_33 ?_
        refine lv_iconst (pc := 34) (v := 1) hx hb dX4_onSeats_34 (by decide) ?_
        refine lv_iand (pc := 35) hx hb dX4_onSeats_35 ?_
        refine lv_iconst (pc := 36) (v := 1) hx hb dX4_onSeats_36 (by decide) ?_
        refine lv_icmp_ne (pc := 37) (tgt := 44) hx hb dX4_onSeats_37 (by decide) (fun c14 => ?_) (fun c14 => ?_)
        · have hd := wt_if hd c14
          refine lv_iconst (pc := 44) (v := 0) hx hb dX4_onSeats_44 (by decide) ?_
          refine lv_iadd (pc := 45) hx hb dX4_onSeats_45 ?_
          obtain ⟨n15, en15, hd⟩ := wt_lt_o hd
          refine lv_tope en15 ?_
          refine lv_istore_n (pc := 46) (lv' := [(3, .int n15), (0, .ref X.1.1), (1, .int a0), (2, .int a1), (4, .int v1.2)]) hx hb dX4_onSeats_46 rfl hl (by decide) rfl (fun ls hl => ?_)
          obtain ⟨n16, en16, hd⟩ := wt_lt_o hd
          refine lv_iinc (pc := 47) (k := 4) (v := n16) (lv' := [(4, .int n16), (3, .int n15), (0, .ref X.1.1), (1, .int a0), (2, .int a1)]) hx hb dX4_onSeats_47 hl rfl en16.symm (by decide) rfl (fun ls hl => ?_)
          refine lv_goto (pc := 50) (tgt := 5) hx hb dX4_onSeats_50 (by decide) ?_
          exact ih7 _ (wt_again hd hk6) _ _ _ hW hS (lv_sub hl [2, 3, 4, 1, 0] rfl)
        · have hd := wt_it hd c14
          refine lv_iconst (pc := 40) (v := 1) hx hb dX4_onSeats_40 (by decide) ?_
          refine lv_goto (pc := 41) (tgt := 45) hx hb dX4_onSeats_41 (by decide) ?_
          refine lv_iadd (pc := 45) hx hb dX4_onSeats_45 ?_
          obtain ⟨n17, en17, hd⟩ := wt_lt_o hd
          refine lv_tope en17 ?_
          refine lv_istore_n (pc := 46) (lv' := [(3, .int n17), (0, .ref X.1.1), (1, .int a0), (2, .int a1), (4, .int v1.2)]) hx hb dX4_onSeats_46 rfl hl (by decide) rfl (fun ls hl => ?_)
          obtain ⟨n18, en18, hd⟩ := wt_lt_o hd
          refine lv_iinc (pc := 47) (k := 4) (v := n18) (lv' := [(4, .int n18), (3, .int n17), (0, .ref X.1.1), (1, .int a0), (2, .int a1)]) hx hb dX4_onSeats_47 hl rfl en18.symm (by decide) rfl (fun ls hl => ?_)
          refine lv_goto (pc := 50) (tgt := 5) hx hb dX4_onSeats_50 (by decide) ?_
          exact ih7 _ (wt_again hd hk6) _ _ _ hW hS (lv_sub hl [2, 3, 4, 1, 0] rfl)
  obtain ⟨k9, hL3⟩ := wt_whC_o hL3
  exact hI10 k9 _ hL3 _ _ _ hW hS (lv_sub hl [2, 3, 4, 1, 0] rfl)
theorem kX4_onSeats {p : Program} {l : Launch} {e : Env} {R : Room} {s : State} {m : MethodId} {args : Array Value} {below : List Frame} {meth : Method} {c : Code} {H : Heap} {locs : List Loc} {cells slots : Nat} {Q : State → Prop} {cc : ByteArray} {pc : Nat} {ls : Array Slot} {rest : List Value} {H0 : Heap} {nL : Nat} {X : MPar} {lo hi : Nat} {σ : MSt} {a0 : Int32} {a1 : Int32} {out_ : Int32} (hx : p.tables.exec = Jvm.exec) (hb : c.code = cc) (hml : c.maxLocals = nL) (hown : s.vm.findClass RX4 = some m.cls) (hts : ∀ w ∈ lw_all, w.before args s = true) (hK : mK X s) (hJ : mJ X lo hi) (hW : mW X σ H) (hS : va_S (mA lo hi) H0 H locs) (hd : dX4_onSeats σ a0 a1 = some out_) (hsz : ls.size = nL) (hrm : (rest.map fun v => v.category).sum ≤ 8) (hR : 1 ≤ R.frames ∧ 24 ≤ R.locals) (hcs : cells ≤ R.cells ∧ slots ≤ R.slots) (hdg : decode cc pc = .ok (.invokevirtual 303, 3)) (kk : ∀ (H1 : Heap) (locs1 : List Loc), mW X σ H1 → va_S (mA lo hi) H0 H1 locs1 → W p l e R s m args below meth c H1 locs1 cells slots Q (F0 m (pc + 3) ls (.int out_ :: rest))) : W p l e R s m args below meth c H locs cells slots Q (F0 m pc ls (.int a1 :: .int a0 :: .ref X.1.1 :: rest)) := by
  refine va_calli (va_runV (As := [.int a0, .int a1]) (rest := rest) ⟨hx, hb, hml, hown, hts⟩ (wX4_onSeats l hJ hd) (cwV 2 hts (lw_V q1959 q1961 qs62 q88 q1962) rfl rfl rfl (by decide +kernel) hR) (mr_pre hK hW) rfl rfl hsz rfl (lv_room hrm) hdg hcs) hS (fun _ _ h => h) (fun _ h => h) (fun r u t H1 locs1 ht hvm hp hB hz hk hS1 => ?_)
  have hp : r = out_ := hp
  subst hp
  have hW1 : mW X σ t.heap := hB.1
  rw [ht] at hW1
  exact kk H1 locs1 hW1 hS1
noncomputable def dX4_share (σ : MSt) (a0 : Int32) : Option (Int32 × MSt) :=
  wt_lt (m_sF σ 0 (0 : Int32)) fun σ1 => wt_bd (dX4_in a0 (0 : Int32) (9 : Int32)) fun w2 => wt_bd (if w2 = 0 then (some (1 : Int32)) else (some (0 : Int32))) fun w4 => wt_bd (dX4_bad σ1 w4 (1 : Int32)) fun w9 => if w9.1 = 0 then (wt_bd (dX4_onSeats w9.2 a0 a0) fun w12 => some (w12, w9.2)) else (some ((0 : Int32), w9.2))
set_option maxHeartbeats 4000000 in
theorem wX4_share (l : Launch) {X : MPar} {lo hi : Nat} (hJ : mJ X lo hi) {σ : MSt} {a0 : Int32} {out_ : Int32 × MSt} (hd : dX4_share σ a0 = some out_) : Met l yX4_share (ws_ yX4_share cX4_share 2 (some .int)) ({ frames := 1, cells := 0, slots := 0, locals := 24 }) (mP X σ [.ref X.1.1, .int a0]) (mQi X out_.1 out_.2 (mA lo hi)) 0 0 (mA lo hi) := by
  refine Met.ofW (cc := cX4_share) (maxL := 2) (ret := (some .int)) (by decide) rfl ?_
  intro p_ e_ s_ m_ args_ below_ meth_ c_ s₁_ B hml hv
  obtain ⟨rfl, hW, hK⟩ := hv
  have hx := B.exec
  have hb := B.bytes
  have hr := B.returns
  have hts := atoms_spec (ws := (ws_ yX4_share cX4_share 2 (some .int))) B.pre
  have hts : ∀ w ∈ lw_all, w.before _ s_ = true := fun w h => hts w (List.mem_cons_of_mem _ h)
  have hown : s_.vm.findClass RX4 = some m_.cls := findClass_of_methodNamed B.named
  have hlocks := B.notSynchronized
  have hS : va_S (mA lo hi) s_.heap s_.heap [] := va_S.rf
  have hl := lv_entry ([.ref X.1.1, .int a0]) (n := 2) (Nat.le_of_ble_eq_true rfl)
  rw [lg_entry_eq]
  generalize (lg_sl ([.ref X.1.1, .int a0]) ++ List.replicate (2 - (lg_sl ([.ref X.1.1, .int a0])).length) Slot.unset).toArray = ls at hl ⊢
  have hl : lv_has ls 2 [(0, .ref X.1.1), (1, .int a0)] := hl
  unfold dX4_share at hd
  refine lv_aload_n (pc := 0) hx hb dX4_share_0 rfl (lv_at hl 0 rfl) ?_
  refine lv_iconst (pc := 1) (v := 0) hx hb dX4_share_1 (by decide) ?_
  obtain ⟨σ1, eσ1, hd⟩ := wt_lt_o hd
  refine mr_put (pc := 2) (k := 0) hx hb hts hown hK hW hJ hS (by decide) rfl eσ1 q1529 dX4_share_2 (fun H locs hW hS => ?_)
  refine lv_aload_n (pc := 5) hx hb dX4_share_5 rfl (lv_at hl 0 rfl) ?_
  refine lv_iload_n (pc := 6) hx hb dX4_share_6 rfl (lv_at hl 1 rfl) ?_
  refine lv_iconst (pc := 7) (v := 0) hx hb dX4_share_7 (by decide) ?_
  refine lv_bipush (pc := 8) (v := 9) hx hb dX4_share_8 (by decide) ?_
  obtain ⟨w2, hc3, hd⟩ := wt_bd_o hd
  refine kX4_in (pc := 10) hx hb hml hown hts hK hW hS hc3 hl.1 (Nat.le_of_ble_eq_true rfl) ⟨Nat.le_of_ble_eq_true rfl, Nat.le_of_ble_eq_true rfl⟩ ⟨Nat.le_refl _, Nat.le_refl _⟩ dX4_share_10 (fun H locs hW hS => ?_)
  obtain ⟨w4, hj5, hq6⟩ := wt_bd_o hd
  have hX7 : ∀ w4_ : Int32, w4_ = w4 → ∀ (H : Heap) (locs : List Loc) (ls : Array Slot), mW X σ1 H → va_S (mA lo hi) s_.heap H locs → lv_has ls 2 [(0, .ref X.1.1), (1, .int a0)] → W p_ l e_ (headSpec (ws_ yX4_share cX4_share 2 (some .int)) ({ frames := 1, cells := 0, slots := 0, locals := 24 })).room s_ m_ ([.ref X.1.1, .int a0] : List Value).toArray below_ meth_ c_ H locs 0 0 (MQ below_ (mQi X out_.1 out_.2 (mA lo hi)) ([.ref X.1.1, .int a0] : List Value).toArray s_ 0 0 (mA lo hi)) (F0 m_ 21 ls [.int w4_, .ref X.1.1]) := by
    intro w4_ hw_
    have hd := hq6
    subst hw_
    clear hj5 hq6
    intro H locs ls hW hS hl
    refine lv_iconst (pc := 21) (v := 1) hx hb dX4_share_21 (by decide) ?_
    obtain ⟨w9, hc10, hd⟩ := wt_bd_o hd
    refine kX4_bad (pc := 22) hx hb hml hown hts hK hJ hW hS hc10 hl.1 (Nat.le_of_ble_eq_true rfl) ⟨Nat.le_of_ble_eq_true rfl, Nat.le_of_ble_eq_true rfl⟩ ⟨Nat.le_refl _, Nat.le_refl _⟩ dX4_share_22 (fun H locs hW hS => ?_)
    refine lv_if_eq (pc := 25) (tgt := 30) hx hb dX4_share_25 (by decide) (fun c11 => ?_) (fun c11 => ?_)
    · have hd := wt_it hd c11
      refine lv_aload_n (pc := 30) hx hb dX4_share_30 rfl (lv_at hl 0 rfl) ?_
      refine lv_iload_n (pc := 31) hx hb dX4_share_31 rfl (lv_at hl 1 rfl) ?_
      refine lv_iload_n (pc := 32) hx hb dX4_share_32 rfl (lv_at hl 1 rfl) ?_
      obtain ⟨w12, hc13, hd⟩ := wt_bd_o hd
      refine kX4_onSeats (pc := 33) hx hb hml hown hts hK hJ hW hS hc13 hl.1 (Nat.le_of_ble_eq_true rfl) ⟨Nat.le_of_ble_eq_true rfl, Nat.le_of_ble_eq_true rfl⟩ ⟨Nat.le_refl _, Nat.le_refl _⟩ dX4_share_33 (fun H locs hW hS => ?_)
      exact mr_iret hx hb hr rfl hlocks (wt_p1 hd) (wt_p2 hd) hW hK hS dX4_share_36
    · have hd := wt_if hd c11
      refine lv_iconst (pc := 28) (v := 0) hx hb dX4_share_28 (by decide) ?_
      exact mr_iret hx hb hr rfl hlocks (wt_p1 hd) (wt_p2 hd) hW hK hS dX4_share_29
  have hd := hj5
  refine lv_if_ne (pc := 13) (tgt := 20) hx hb dX4_share_13 (by decide) (fun c8 => ?_) (fun c8 => ?_)
  · have hd := wt_if hd c8
    refine lv_iconst (pc := 20) (v := 0) hx hb dX4_share_20 (by decide) ?_
    exact hX7 (0 : Int32) (Option.some.inj hd) _ _ _ hW hS hl
  · have hd := wt_it hd c8
    refine lv_iconst (pc := 16) (v := 1) hx hb dX4_share_16 (by decide) ?_
    refine lv_goto (pc := 17) (tgt := 21) hx hb dX4_share_17 (by decide) ?_
    exact hX7 (1 : Int32) (Option.some.inj hd) _ _ _ hW hS hl
noncomputable def dX4_together (σ : MSt) (a0 : Int32) (a1 : Int32) : Option (Int32 × MSt) :=
  wt_lt (m_sF σ 0 (0 : Int32)) fun σ1 => wt_bd (dX4_in a0 (0 : Int32) (9 : Int32)) fun w2 => wt_bd (if w2 = 0 then (some (.inl ())) else (wt_bd (dX4_in a1 (0 : Int32) (9 : Int32)) fun w9 => if w9 = 0 then (some (.inl ())) else (wt_bd (dX4_bad σ1 (0 : Int32) (1 : Int32)) fun w12 => if w12.1 = 0 then (wt_bd (dX4_onSeats w12.2 a0 a1) fun w15 => wt_bd (dX4_onSeats w12.2 a0 a0) fun w17 => wt_bd (dX4_onSeats w12.2 a1 a1) fun w19 => some (.inr (((w15 * (w12.2.1 29)) - (w17 * w19)), w12.2))) else (some (.inr ((0 : Int32), w12.2)))))) fun w4 => wt_rs w4 (fun w4 => wt_bd (dX4_bad σ1 (1 : Int32) (1 : Int32)) fun w21 => if w21.1 = 0 then (wt_bd (dX4_onSeats w21.2 a0 a1) fun w24 => wt_bd (dX4_onSeats w21.2 a0 a0) fun w26 => wt_bd (dX4_onSeats w21.2 a1 a1) fun w28 => some (((w24 * (w21.2.1 29)) - (w26 * w28)), w21.2)) else (some ((0 : Int32), w21.2))) (fun z_ => some z_)
set_option maxHeartbeats 4000000 in
theorem wX4_together (l : Launch) {X : MPar} {lo hi : Nat} (hJ : mJ X lo hi) {σ : MSt} {a0 : Int32} {a1 : Int32} {out_ : Int32 × MSt} (hd : dX4_together σ a0 a1 = some out_) : Met l yX4_together (ws_ yX4_together cX4_together 3 (some .int)) ({ frames := 1, cells := 0, slots := 0, locals := 24 }) (mP X σ [.ref X.1.1, .int a0, .int a1]) (mQi X out_.1 out_.2 (mA lo hi)) 0 0 (mA lo hi) := by
  refine Met.ofW (cc := cX4_together) (maxL := 3) (ret := (some .int)) (by decide) rfl ?_
  intro p_ e_ s_ m_ args_ below_ meth_ c_ s₁_ B hml hv
  obtain ⟨rfl, hW, hK⟩ := hv
  have hx := B.exec
  have hb := B.bytes
  have hr := B.returns
  have hts := atoms_spec (ws := (ws_ yX4_together cX4_together 3 (some .int))) B.pre
  have hts : ∀ w ∈ lw_all, w.before _ s_ = true := fun w h => hts w (List.mem_cons_of_mem _ h)
  have hown : s_.vm.findClass RX4 = some m_.cls := findClass_of_methodNamed B.named
  have hlocks := B.notSynchronized
  have hS : va_S (mA lo hi) s_.heap s_.heap [] := va_S.rf
  have hl := lv_entry ([.ref X.1.1, .int a0, .int a1]) (n := 3) (Nat.le_of_ble_eq_true rfl)
  rw [lg_entry_eq]
  generalize (lg_sl ([.ref X.1.1, .int a0, .int a1]) ++ List.replicate (3 - (lg_sl ([.ref X.1.1, .int a0, .int a1])).length) Slot.unset).toArray = ls at hl ⊢
  have hl : lv_has ls 3 [(0, .ref X.1.1), (1, .int a0), (2, .int a1)] := hl
  unfold dX4_together at hd
  refine lv_aload_n (pc := 0) hx hb dX4_together_0 rfl (lv_at hl 0 rfl) ?_
  refine lv_iconst (pc := 1) (v := 0) hx hb dX4_together_1 (by decide) ?_
  obtain ⟨σ1, eσ1, hd⟩ := wt_lt_o hd
  refine mr_put (pc := 2) (k := 0) hx hb hts hown hK hW hJ hS (by decide) rfl eσ1 q1529 dX4_together_2 (fun H locs hW hS => ?_)
  refine lv_aload_n (pc := 5) hx hb dX4_together_5 rfl (lv_at hl 0 rfl) ?_
  refine lv_iload_n (pc := 6) hx hb dX4_together_6 rfl (lv_at hl 1 rfl) ?_
  refine lv_iconst (pc := 7) (v := 0) hx hb dX4_together_7 (by decide) ?_
  refine lv_bipush (pc := 8) (v := 9) hx hb dX4_together_8 (by decide) ?_
  obtain ⟨w2, hc3, hd⟩ := wt_bd_o hd
  refine kX4_in (pc := 10) hx hb hml hown hts hK hW hS hc3 hl.1 (Nat.le_of_ble_eq_true rfl) ⟨Nat.le_of_ble_eq_true rfl, Nat.le_of_ble_eq_true rfl⟩ ⟨Nat.le_refl _, Nat.le_refl _⟩ dX4_together_10 (fun H locs hW hS => ?_)
  obtain ⟨w4, hj5, hq6⟩ := wt_bd_o hd
  have hX7 : ∀ w4_ : Unit, (Sum.inl w4_ : Unit ⊕ _) = w4 → ∀ (H : Heap) (locs : List Loc) (ls : Array Slot), mW X σ1 H → va_S (mA lo hi) s_.heap H locs → lv_has ls 3 [(0, .ref X.1.1), (1, .int a0), (2, .int a1)] → W p_ l e_ (headSpec (ws_ yX4_together cX4_together 3 (some .int)) ({ frames := 1, cells := 0, slots := 0, locals := 24 })).room s_ m_ ([.ref X.1.1, .int a0, .int a1] : List Value).toArray below_ meth_ c_ H locs 0 0 (MQ below_ (mQi X out_.1 out_.2 (mA lo hi)) ([.ref X.1.1, .int a0, .int a1] : List Value).toArray s_ 0 0 (mA lo hi)) (F0 m_ 26 ls [.ref X.1.1]) := by
    intro w4_ hw_
    have hd := wt_rs_l hw_ hq6
    clear hj5 hq6
    intro H locs ls hW hS hl
    refine lv_iconst (pc := 26) (v := 1) hx hb dX4_together_26 (by decide) ?_
    refine lv_goto (pc := 27) (tgt := 31) hx hb dX4_together_27 (by decide) ?_
    refine lv_iconst (pc := 31) (v := 1) hx hb dX4_together_31 (by decide) ?_
    obtain ⟨w21, hc22, hd⟩ := wt_bd_o hd
    refine kX4_bad (pc := 32) hx hb hml hown hts hK hJ hW hS hc22 hl.1 (Nat.le_of_ble_eq_true rfl) ⟨Nat.le_of_ble_eq_true rfl, Nat.le_of_ble_eq_true rfl⟩ ⟨Nat.le_refl _, Nat.le_refl _⟩ dX4_together_32 (fun H locs hW hS => ?_)
    refine lv_if_eq (pc := 35) (tgt := 40) hx hb dX4_together_35 (by decide) (fun c23 => ?_) (fun c23 => ?_)
    · have hd := wt_it hd c23
      refine lv_aload_n (pc := 40) hx hb dX4_together_40 rfl (lv_at hl 0 rfl) ?_
      refine lv_iload_n (pc := 41) hx hb dX4_together_41 rfl (lv_at hl 1 rfl) ?_
      refine lv_iload_n (pc := 42) hx hb dX4_together_42 rfl (lv_at hl 2 rfl) ?_
      obtain ⟨w24, hc25, hd⟩ := wt_bd_o hd
      refine kX4_onSeats (pc := 43) hx hb hml hown hts hK hJ hW hS hc25 hl.1 (Nat.le_of_ble_eq_true rfl) ⟨Nat.le_of_ble_eq_true rfl, Nat.le_of_ble_eq_true rfl⟩ ⟨Nat.le_refl _, Nat.le_refl _⟩ dX4_together_43 (fun H locs hW hS => ?_)
      refine lv_aload_n (pc := 46) hx hb dX4_together_46 rfl (lv_at hl 0 rfl) ?_
      refine mr_get (pc := 47) (k := 29) (v := .int ((w21.2.1 29))) hx hb hts hown hK hW (by decide) rfl q1558 dX4_together_47 ?_
      refine lv_imul (pc := 50) hx hb dX4_together_50 ?_
      refine lv_aload_n (pc := 51) hx hb dX4_together_51 rfl (lv_at hl 0 rfl) ?_
      refine lv_iload_n (pc := 52) hx hb dX4_together_52 rfl (lv_at hl 1 rfl) ?_
      refine lv_iload_n (pc := 53) hx hb dX4_together_53 rfl (lv_at hl 1 rfl) ?_
      obtain ⟨w26, hc27, hd⟩ := wt_bd_o hd
      refine kX4_onSeats (pc := 54) hx hb hml hown hts hK hJ hW hS hc27 hl.1 (Nat.le_of_ble_eq_true rfl) ⟨Nat.le_of_ble_eq_true rfl, Nat.le_of_ble_eq_true rfl⟩ ⟨Nat.le_refl _, Nat.le_refl _⟩ dX4_together_54 (fun H locs hW hS => ?_)
      refine lv_aload_n (pc := 57) hx hb dX4_together_57 rfl (lv_at hl 0 rfl) ?_
      refine lv_iload_n (pc := 58) hx hb dX4_together_58 rfl (lv_at hl 2 rfl) ?_
      refine lv_iload_n (pc := 59) hx hb dX4_together_59 rfl (lv_at hl 2 rfl) ?_
      obtain ⟨w28, hc29, hd⟩ := wt_bd_o hd
      refine kX4_onSeats (pc := 60) hx hb hml hown hts hK hJ hW hS hc29 hl.1 (Nat.le_of_ble_eq_true rfl) ⟨Nat.le_of_ble_eq_true rfl, Nat.le_of_ble_eq_true rfl⟩ ⟨Nat.le_refl _, Nat.le_refl _⟩ dX4_together_60 (fun H locs hW hS => ?_)
      refine lv_imul (pc := 63) hx hb dX4_together_63 ?_
      refine lv_isub (pc := 64) hx hb dX4_together_64 ?_
      exact mr_iret hx hb hr rfl hlocks (wt_p1 hd) (wt_p2 hd) hW hK hS dX4_together_65
    · have hd := wt_if hd c23
      refine lv_iconst (pc := 38) (v := 0) hx hb dX4_together_38 (by decide) ?_
      exact mr_iret hx hb hr rfl hlocks (wt_p1 hd) (wt_p2 hd) hW hK hS dX4_together_39
  have hd := hj5
  refine lv_if_eq (pc := 13) (tgt := 26) hx hb dX4_together_13 (by decide) (fun c8 => ?_) (fun c8 => ?_)
  · have hd := wt_it hd c8
    exact hX7 () (Option.some.inj hd) _ _ _ hW hS hl
  · have hd := wt_if hd c8
    refine lv_iload_n (pc := 16) hx hb dX4_together_16 rfl (lv_at hl 2 rfl) ?_
    refine lv_iconst (pc := 17) (v := 0) hx hb dX4_together_17 (by decide) ?_
    refine lv_bipush (pc := 18) (v := 9) hx hb dX4_together_18 (by decide) ?_
    obtain ⟨w9, hc10, hd⟩ := wt_bd_o hd
    refine kX4_in (pc := 20) hx hb hml hown hts hK hW hS hc10 hl.1 (Nat.le_of_ble_eq_true rfl) ⟨Nat.le_of_ble_eq_true rfl, Nat.le_of_ble_eq_true rfl⟩ ⟨Nat.le_refl _, Nat.le_refl _⟩ dX4_together_20 (fun H locs hW hS => ?_)
    refine lv_if_ne (pc := 23) (tgt := 30) hx hb dX4_together_23 (by decide) (fun c11 => ?_) (fun c11 => ?_)
    · have hd := wt_if hd c11
      refine lv_iconst (pc := 30) (v := 0) hx hb dX4_together_30 (by decide) ?_
      refine lv_iconst (pc := 31) (v := 1) hx hb dX4_together_31 (by decide) ?_
      obtain ⟨w12, hc13, hd⟩ := wt_bd_o hd
      refine kX4_bad (pc := 32) hx hb hml hown hts hK hJ hW hS hc13 hl.1 (Nat.le_of_ble_eq_true rfl) ⟨Nat.le_of_ble_eq_true rfl, Nat.le_of_ble_eq_true rfl⟩ ⟨Nat.le_refl _, Nat.le_refl _⟩ dX4_together_32 (fun H locs hW hS => ?_)
      refine lv_if_eq (pc := 35) (tgt := 40) hx hb dX4_together_35 (by decide) (fun c14 => ?_) (fun c14 => ?_)
      · have hd := wt_it hd c14
        refine lv_aload_n (pc := 40) hx hb dX4_together_40 rfl (lv_at hl 0 rfl) ?_
        refine lv_iload_n (pc := 41) hx hb dX4_together_41 rfl (lv_at hl 1 rfl) ?_
        refine lv_iload_n (pc := 42) hx hb dX4_together_42 rfl (lv_at hl 2 rfl) ?_
        obtain ⟨w15, hc16, hd⟩ := wt_bd_o hd
        refine kX4_onSeats (pc := 43) hx hb hml hown hts hK hJ hW hS hc16 hl.1 (Nat.le_of_ble_eq_true rfl) ⟨Nat.le_of_ble_eq_true rfl, Nat.le_of_ble_eq_true rfl⟩ ⟨Nat.le_refl _, Nat.le_refl _⟩ dX4_together_43 (fun H locs hW hS => ?_)
        refine lv_aload_n (pc := 46) hx hb dX4_together_46 rfl (lv_at hl 0 rfl) ?_
        refine mr_get (pc := 47) (k := 29) (v := .int ((w12.2.1 29))) hx hb hts hown hK hW (by decide) rfl q1558 dX4_together_47 ?_
        refine lv_imul (pc := 50) hx hb dX4_together_50 ?_
        refine lv_aload_n (pc := 51) hx hb dX4_together_51 rfl (lv_at hl 0 rfl) ?_
        refine lv_iload_n (pc := 52) hx hb dX4_together_52 rfl (lv_at hl 1 rfl) ?_
        refine lv_iload_n (pc := 53) hx hb dX4_together_53 rfl (lv_at hl 1 rfl) ?_
        obtain ⟨w17, hc18, hd⟩ := wt_bd_o hd
        refine kX4_onSeats (pc := 54) hx hb hml hown hts hK hJ hW hS hc18 hl.1 (Nat.le_of_ble_eq_true rfl) ⟨Nat.le_of_ble_eq_true rfl, Nat.le_of_ble_eq_true rfl⟩ ⟨Nat.le_refl _, Nat.le_refl _⟩ dX4_together_54 (fun H locs hW hS => ?_)
        refine lv_aload_n (pc := 57) hx hb dX4_together_57 rfl (lv_at hl 0 rfl) ?_
        refine lv_iload_n (pc := 58) hx hb dX4_together_58 rfl (lv_at hl 2 rfl) ?_
        refine lv_iload_n (pc := 59) hx hb dX4_together_59 rfl (lv_at hl 2 rfl) ?_
        obtain ⟨w19, hc20, hd⟩ := wt_bd_o hd
        refine kX4_onSeats (pc := 60) hx hb hml hown hts hK hJ hW hS hc20 hl.1 (Nat.le_of_ble_eq_true rfl) ⟨Nat.le_of_ble_eq_true rfl, Nat.le_of_ble_eq_true rfl⟩ ⟨Nat.le_refl _, Nat.le_refl _⟩ dX4_together_60 (fun H locs hW hS => ?_)
        refine lv_imul (pc := 63) hx hb dX4_together_63 ?_
        refine lv_isub (pc := 64) hx hb dX4_together_64 ?_
        have hd := wt_rs_r (Option.some.inj hd) hq6
        exact mr_iret hx hb hr rfl hlocks (wt_p1 hd) (wt_p2 hd) hW hK hS dX4_together_65
      · have hd := wt_if hd c14
        refine lv_iconst (pc := 38) (v := 0) hx hb dX4_together_38 (by decide) ?_
        have hd := wt_rs_r (Option.some.inj hd) hq6
        exact mr_iret hx hb hr rfl hlocks (wt_p1 hd) (wt_p2 hd) hW hK hS dX4_together_39
    · have hd := wt_it hd c11
      exact hX7 () (Option.some.inj hd) _ _ _ hW hS hl
noncomputable def dX4_shop (σ : MSt) (a0 : Int32) (a1 : Int32) (a2 : Int32) : Option (Int32 × MSt) :=
  wt_lt (m_sF σ 0 (0 : Int32)) fun σ1 => wt_bd (dX4_in a0 (0 : Int32) (9 : Int32)) fun w2 => wt_bd (if w2 = 0 then (some (.inl ())) else (wt_bd (dX4_in a2 (1 : Int32) (1000000 : Int32)) fun w9 => if w9 = 0 then (some (.inl ())) else (wt_bd (dX4_in a1 (0 : Int32) a2) fun w12 => if w12 = 0 then (some (.inl ())) else (wt_bd (dX4_bad σ1 (0 : Int32) (1 : Int32)) fun w15 => if w15.1 = 0 then (if (w15.2.1 30) = (12 : Int32) then (some (.inr ((-1 : Int32), w15.2))) else (wt_ck (vp_in (w15.2.1 30) 12) <| wt_ck (vp_in (0 : Int32) 3) <| wt_lt (m_sG w15.2 34 (((w15.2.1 30)).toNatClampNeg) (0 : Int32).toNatClampNeg a0) fun σ21 => wt_ck (vp_in (σ21.1 30) 12) <| wt_ck (vp_in (1 : Int32) 3) <| wt_lt (m_sG σ21 34 (((σ21.1 30)).toNatClampNeg) (1 : Int32).toNatClampNeg a1) fun σ24 => wt_ck (vp_in (σ24.1 30) 12) <| wt_ck (vp_in (2 : Int32) 3) <| wt_lt (m_sG σ24 34 (((σ24.1 30)).toNatClampNeg) (2 : Int32).toNatClampNeg a2) fun σ27 => wt_lt (m_sF σ27 30 ((σ27.1 30) + (1 : Int32))) fun σ28 => some (.inr ((σ28.1 30), σ28)))) else (some (.inr ((0 : Int32), w15.2))))))) fun w4 => wt_rs w4 (fun w4 => wt_bd (dX4_bad σ1 (1 : Int32) (1 : Int32)) fun w29 => if w29.1 = 0 then (if (w29.2.1 30) = (12 : Int32) then (some ((-1 : Int32), w29.2)) else (wt_ck (vp_in (w29.2.1 30) 12) <| wt_ck (vp_in (0 : Int32) 3) <| wt_lt (m_sG w29.2 34 (((w29.2.1 30)).toNatClampNeg) (0 : Int32).toNatClampNeg a0) fun σ35 => wt_ck (vp_in (σ35.1 30) 12) <| wt_ck (vp_in (1 : Int32) 3) <| wt_lt (m_sG σ35 34 (((σ35.1 30)).toNatClampNeg) (1 : Int32).toNatClampNeg a1) fun σ38 => wt_ck (vp_in (σ38.1 30) 12) <| wt_ck (vp_in (2 : Int32) 3) <| wt_lt (m_sG σ38 34 (((σ38.1 30)).toNatClampNeg) (2 : Int32).toNatClampNeg a2) fun σ41 => wt_lt (m_sF σ41 30 ((σ41.1 30) + (1 : Int32))) fun σ42 => some ((σ42.1 30), σ42))) else (some ((0 : Int32), w29.2))) (fun z_ => some z_)
set_option maxHeartbeats 4000000 in
theorem wX4_shop (l : Launch) {X : MPar} {lo hi : Nat} (hJ : mJ X lo hi) {σ : MSt} {a0 : Int32} {a1 : Int32} {a2 : Int32} {out_ : Int32 × MSt} (hd : dX4_shop σ a0 a1 a2 = some out_) : Met l yX4_shop (ws_ yX4_shop cX4_shop 4 (some .int)) ({ frames := 1, cells := 0, slots := 0, locals := 22 }) (mP X σ [.ref X.1.1, .int a0, .int a1, .int a2]) (mQi X out_.1 out_.2 (mA lo hi)) 0 0 (mA lo hi) := by
  refine Met.ofW (cc := cX4_shop) (maxL := 4) (ret := (some .int)) (by decide) rfl ?_
  intro p_ e_ s_ m_ args_ below_ meth_ c_ s₁_ B hml hv
  obtain ⟨rfl, hW, hK⟩ := hv
  have hx := B.exec
  have hb := B.bytes
  have hr := B.returns
  have hts := atoms_spec (ws := (ws_ yX4_shop cX4_shop 4 (some .int))) B.pre
  have hts : ∀ w ∈ lw_all, w.before _ s_ = true := fun w h => hts w (List.mem_cons_of_mem _ h)
  have hown : s_.vm.findClass RX4 = some m_.cls := findClass_of_methodNamed B.named
  have hlocks := B.notSynchronized
  have hS : va_S (mA lo hi) s_.heap s_.heap [] := va_S.rf
  have hl := lv_entry ([.ref X.1.1, .int a0, .int a1, .int a2]) (n := 4) (Nat.le_of_ble_eq_true rfl)
  rw [lg_entry_eq]
  generalize (lg_sl ([.ref X.1.1, .int a0, .int a1, .int a2]) ++ List.replicate (4 - (lg_sl ([.ref X.1.1, .int a0, .int a1, .int a2])).length) Slot.unset).toArray = ls at hl ⊢
  have hl : lv_has ls 4 [(0, .ref X.1.1), (1, .int a0), (2, .int a1), (3, .int a2)] := hl
  unfold dX4_shop at hd
  refine lv_aload_n (pc := 0) hx hb dX4_shop_0 rfl (lv_at hl 0 rfl) ?_
  refine lv_iconst (pc := 1) (v := 0) hx hb dX4_shop_1 (by decide) ?_
  obtain ⟨σ1, eσ1, hd⟩ := wt_lt_o hd
  refine mr_put (pc := 2) (k := 0) hx hb hts hown hK hW hJ hS (by decide) rfl eσ1 q1529 dX4_shop_2 (fun H locs hW hS => ?_)
  refine lv_aload_n (pc := 5) hx hb dX4_shop_5 rfl (lv_at hl 0 rfl) ?_
  refine lv_iload_n (pc := 6) hx hb dX4_shop_6 rfl (lv_at hl 1 rfl) ?_
  refine lv_iconst (pc := 7) (v := 0) hx hb dX4_shop_7 (by decide) ?_
  refine lv_bipush (pc := 8) (v := 9) hx hb dX4_shop_8 (by decide) ?_
  obtain ⟨w2, hc3, hd⟩ := wt_bd_o hd
  refine kX4_in (pc := 10) hx hb hml hown hts hK hW hS hc3 hl.1 (Nat.le_of_ble_eq_true rfl) ⟨Nat.le_of_ble_eq_true rfl, Nat.le_of_ble_eq_true rfl⟩ ⟨Nat.le_refl _, Nat.le_refl _⟩ dX4_shop_10 (fun H locs hW hS => ?_)
  obtain ⟨w4, hj5, hq6⟩ := wt_bd_o hd
  have hX7 : ∀ w4_ : Unit, (Sum.inl w4_ : Unit ⊕ _) = w4 → ∀ (H : Heap) (locs : List Loc) (ls : Array Slot), mW X σ1 H → va_S (mA lo hi) s_.heap H locs → lv_has ls 4 [(0, .ref X.1.1), (1, .int a0), (2, .int a1), (3, .int a2)] → W p_ l e_ (headSpec (ws_ yX4_shop cX4_shop 4 (some .int)) ({ frames := 1, cells := 0, slots := 0, locals := 22 })).room s_ m_ ([.ref X.1.1, .int a0, .int a1, .int a2] : List Value).toArray below_ meth_ c_ H locs 0 0 (MQ below_ (mQi X out_.1 out_.2 (mA lo hi)) ([.ref X.1.1, .int a0, .int a1, .int a2] : List Value).toArray s_ 0 0 (mA lo hi)) (F0 m_ 36 ls [.ref X.1.1]) := by
    intro w4_ hw_
    have hd := wt_rs_l hw_ hq6
    clear hj5 hq6
    intro H locs ls hW hS hl
    refine lv_iconst (pc := 36) (v := 1) hx hb dX4_shop_36 (by decide) ?_
    refine lv_goto (pc := 37) (tgt := 41) hx hb dX4_shop_37 (by decide) ?_
    refine lv_iconst (pc := 41) (v := 1) hx hb dX4_shop_41 (by decide) ?_
    obtain ⟨w29, hc30, hd⟩ := wt_bd_o hd
    refine kX4_bad (pc := 42) hx hb hml hown hts hK hJ hW hS hc30 hl.1 (Nat.le_of_ble_eq_true rfl) ⟨Nat.le_of_ble_eq_true rfl, Nat.le_of_ble_eq_true rfl⟩ ⟨Nat.le_refl _, Nat.le_refl _⟩ dX4_shop_42 (fun H locs hW hS => ?_)
    refine lv_if_eq (pc := 45) (tgt := 50) hx hb dX4_shop_45 (by decide) (fun c31 => ?_) (fun c31 => ?_)
    · have hd := wt_it hd c31
      refine lv_aload_n (pc := 50) hx hb dX4_shop_50 rfl (lv_at hl 0 rfl) ?_
      refine mr_get (pc := 51) (k := 30) (v := .int ((w29.2.1 30))) hx hb hts hown hK hW (by decide) rfl q1559 dX4_shop_51 ?_
      refine lv_bipush (pc := 54) (v := 12) hx hb dX4_shop_54 (by decide) ?_
      refine lv_icmp_ne (pc := 56) (tgt := 61) hx hb dX4_shop_56 (by decide) (fun c32 => ?_) (fun c32 => ?_)
      · have hd := wt_if hd c32
        refine lv_aload_n (pc := 61) hx hb dX4_shop_61 rfl (lv_at hl 0 rfl) ?_
        refine mr_get (pc := 62) (k := 34) (v := .ref (X.1.2.1 34)) hx hb hts hown hK hW (by decide) rfl q1563 dX4_shop_62 ?_
        refine lv_aload_n (pc := 65) hx hb dX4_shop_65 rfl (lv_at hl 0 rfl) ?_
        refine mr_get (pc := 66) (k := 30) (v := .int ((w29.2.1 30))) hx hb hts hown hK hW (by decide) rfl q1559 dX4_shop_66 ?_
        obtain ⟨h33, hd⟩ := wt_ck_o hd
        refine mr_row (pc := 69) (k := 34) hx hb hK hW rfl h33 dX4_shop_69 ?_
        refine lv_iconst (pc := 70) (v := 0) hx hb dX4_shop_70 (by decide) ?_
        refine lv_iload_n (pc := 71) hx hb dX4_shop_71 rfl (lv_at hl 1 rfl) ?_
        obtain ⟨h34, hd⟩ := wt_ck_o hd
        obtain ⟨σ35, eσ35, hd⟩ := wt_lt_o hd
        refine mr_gst (pc := 72) (k := 34) (i := (((w29.2.1 30)).toNatClampNeg)) hx hb hK hW hJ hS (vp_lt h33) rfl h34 eσ35 dX4_shop_72 (fun H locs hW hS => ?_)
        refine lv_aload_n (pc := 73) hx hb dX4_shop_73 rfl (lv_at hl 0 rfl) ?_
        refine mr_get (pc := 74) (k := 34) (v := .ref (X.1.2.1 34)) hx hb hts hown hK hW (by decide) rfl q1563 dX4_shop_74 ?_
        refine lv_aload_n (pc := 77) hx hb dX4_shop_77 rfl (lv_at hl 0 rfl) ?_
        refine mr_get (pc := 78) (k := 30) (v := .int ((σ35.1 30))) hx hb hts hown hK hW (by decide) rfl q1559 dX4_shop_78 ?_
        obtain ⟨h36, hd⟩ := wt_ck_o hd
        refine mr_row (pc := 81) (k := 34) hx hb hK hW rfl h36 dX4_shop_81 ?_
        refine lv_iconst (pc := 82) (v := 1) hx hb dX4_shop_82 (by decide) ?_
        refine lv_iload_n (pc := 83) hx hb dX4_shop_83 rfl (lv_at hl 2 rfl) ?_
        obtain ⟨h37, hd⟩ := wt_ck_o hd
        obtain ⟨σ38, eσ38, hd⟩ := wt_lt_o hd
        refine mr_gst (pc := 84) (k := 34) (i := (((σ35.1 30)).toNatClampNeg)) hx hb hK hW hJ hS (vp_lt h36) rfl h37 eσ38 dX4_shop_84 (fun H locs hW hS => ?_)
        refine lv_aload_n (pc := 85) hx hb dX4_shop_85 rfl (lv_at hl 0 rfl) ?_
        refine mr_get (pc := 86) (k := 34) (v := .ref (X.1.2.1 34)) hx hb hts hown hK hW (by decide) rfl q1563 dX4_shop_86 ?_
        refine lv_aload_n (pc := 89) hx hb dX4_shop_89 rfl (lv_at hl 0 rfl) ?_
        refine mr_get (pc := 90) (k := 30) (v := .int ((σ38.1 30))) hx hb hts hown hK hW (by decide) rfl q1559 dX4_shop_90 ?_
        obtain ⟨h39, hd⟩ := wt_ck_o hd
        refine mr_row (pc := 93) (k := 34) hx hb hK hW rfl h39 dX4_shop_93 ?_
        refine lv_iconst (pc := 94) (v := 2) hx hb dX4_shop_94 (by decide) ?_
        refine lv_iload_n (pc := 95) hx hb dX4_shop_95 rfl (lv_at hl 3 rfl) ?_
        obtain ⟨h40, hd⟩ := wt_ck_o hd
        obtain ⟨σ41, eσ41, hd⟩ := wt_lt_o hd
        refine mr_gst (pc := 96) (k := 34) (i := (((σ38.1 30)).toNatClampNeg)) hx hb hK hW hJ hS (vp_lt h39) rfl h40 eσ41 dX4_shop_96 (fun H locs hW hS => ?_)
        refine lv_aload_n (pc := 97) hx hb dX4_shop_97 rfl (lv_at hl 0 rfl) ?_
        refine lv_dup (pc := 98) hx hb dX4_shop_98 rfl ?_
        refine mr_get (pc := 99) (k := 30) (v := .int ((σ41.1 30))) hx hb hts hown hK hW (by decide) rfl q1559 dX4_shop_99 ?_
        refine lv_iconst (pc := 102) (v := 1) hx hb dX4_shop_102 (by decide) ?_
        refine lv_iadd (pc := 103) hx hb dX4_shop_103 ?_
        obtain ⟨σ42, eσ42, hd⟩ := wt_lt_o hd
        refine mr_put (pc := 104) (k := 30) hx hb hts hown hK hW hJ hS (by decide) rfl eσ42 q1559 dX4_shop_104 (fun H locs hW hS => ?_)
        refine lv_aload_n (pc := 107) hx hb dX4_shop_107 rfl (lv_at hl 0 rfl) ?_
        refine mr_get (pc := 108) (k := 30) (v := .int ((σ42.1 30))) hx hb hts hown hK hW (by decide) rfl q1559 dX4_shop_108 ?_
        exact mr_iret hx hb hr rfl hlocks (wt_p1 hd) (wt_p2 hd) hW hK hS dX4_shop_111
      · have hd := wt_it hd c32
        refine lv_iconst (pc := 59) (v := -1) hx hb dX4_shop_59 (by decide) ?_
        exact mr_iret hx hb hr rfl hlocks (wt_p1 hd) (wt_p2 hd) hW hK hS dX4_shop_60
    · have hd := wt_if hd c31
      refine lv_iconst (pc := 48) (v := 0) hx hb dX4_shop_48 (by decide) ?_
      exact mr_iret hx hb hr rfl hlocks (wt_p1 hd) (wt_p2 hd) hW hK hS dX4_shop_49
  have hd := hj5
  refine lv_if_eq (pc := 13) (tgt := 36) hx hb dX4_shop_13 (by decide) (fun c8 => ?_) (fun c8 => ?_)
  · have hd := wt_it hd c8
    exact hX7 () (Option.some.inj hd) _ _ _ hW hS hl
  · have hd := wt_if hd c8
    refine lv_iload_n (pc := 16) hx hb dX4_shop_16 rfl (lv_at hl 3 rfl) ?_
    refine lv_iconst (pc := 17) (v := 1) hx hb dX4_shop_17 (by decide) ?_
    refine lv_ldcw (pc := 18) hx hb hown (hts _ q1913) dX4_shop_18 ?_
    obtain ⟨w9, hc10, hd⟩ := wt_bd_o hd
    refine kX4_in (pc := 21) hx hb hml hown hts hK hW hS hc10 hl.1 (Nat.le_of_ble_eq_true rfl) ⟨Nat.le_of_ble_eq_true rfl, Nat.le_of_ble_eq_true rfl⟩ ⟨Nat.le_refl _, Nat.le_refl _⟩ dX4_shop_21 (fun H locs hW hS => ?_)
    refine lv_if_eq (pc := 24) (tgt := 36) hx hb dX4_shop_24 (by decide) (fun c11 => ?_) (fun c11 => ?_)
    · have hd := wt_it hd c11
      exact hX7 () (Option.some.inj hd) _ _ _ hW hS hl
    · have hd := wt_if hd c11
      refine lv_iload_n (pc := 27) hx hb dX4_shop_27 rfl (lv_at hl 2 rfl) ?_
      refine lv_iconst (pc := 28) (v := 0) hx hb dX4_shop_28 (by decide) ?_
      refine lv_iload_n (pc := 29) hx hb dX4_shop_29 rfl (lv_at hl 3 rfl) ?_
      obtain ⟨w12, hc13, hd⟩ := wt_bd_o hd
      refine kX4_in (pc := 30) hx hb hml hown hts hK hW hS hc13 hl.1 (Nat.le_of_ble_eq_true rfl) ⟨Nat.le_of_ble_eq_true rfl, Nat.le_of_ble_eq_true rfl⟩ ⟨Nat.le_refl _, Nat.le_refl _⟩ dX4_shop_30 (fun H locs hW hS => ?_)
      refine lv_if_ne (pc := 33) (tgt := 40) hx hb dX4_shop_33 (by decide) (fun c14 => ?_) (fun c14 => ?_)
      · have hd := wt_if hd c14
        refine lv_iconst (pc := 40) (v := 0) hx hb dX4_shop_40 (by decide) ?_
        refine lv_iconst (pc := 41) (v := 1) hx hb dX4_shop_41 (by decide) ?_
        obtain ⟨w15, hc16, hd⟩ := wt_bd_o hd
        refine kX4_bad (pc := 42) hx hb hml hown hts hK hJ hW hS hc16 hl.1 (Nat.le_of_ble_eq_true rfl) ⟨Nat.le_of_ble_eq_true rfl, Nat.le_of_ble_eq_true rfl⟩ ⟨Nat.le_refl _, Nat.le_refl _⟩ dX4_shop_42 (fun H locs hW hS => ?_)
        refine lv_if_eq (pc := 45) (tgt := 50) hx hb dX4_shop_45 (by decide) (fun c17 => ?_) (fun c17 => ?_)
        · have hd := wt_it hd c17
          refine lv_aload_n (pc := 50) hx hb dX4_shop_50 rfl (lv_at hl 0 rfl) ?_
          refine mr_get (pc := 51) (k := 30) (v := .int ((w15.2.1 30))) hx hb hts hown hK hW (by decide) rfl q1559 dX4_shop_51 ?_
          refine lv_bipush (pc := 54) (v := 12) hx hb dX4_shop_54 (by decide) ?_
          refine lv_icmp_ne (pc := 56) (tgt := 61) hx hb dX4_shop_56 (by decide) (fun c18 => ?_) (fun c18 => ?_)
          · have hd := wt_if hd c18
            refine lv_aload_n (pc := 61) hx hb dX4_shop_61 rfl (lv_at hl 0 rfl) ?_
            refine mr_get (pc := 62) (k := 34) (v := .ref (X.1.2.1 34)) hx hb hts hown hK hW (by decide) rfl q1563 dX4_shop_62 ?_
            refine lv_aload_n (pc := 65) hx hb dX4_shop_65 rfl (lv_at hl 0 rfl) ?_
            refine mr_get (pc := 66) (k := 30) (v := .int ((w15.2.1 30))) hx hb hts hown hK hW (by decide) rfl q1559 dX4_shop_66 ?_
            obtain ⟨h19, hd⟩ := wt_ck_o hd
            refine mr_row (pc := 69) (k := 34) hx hb hK hW rfl h19 dX4_shop_69 ?_
            refine lv_iconst (pc := 70) (v := 0) hx hb dX4_shop_70 (by decide) ?_
            refine lv_iload_n (pc := 71) hx hb dX4_shop_71 rfl (lv_at hl 1 rfl) ?_
            obtain ⟨h20, hd⟩ := wt_ck_o hd
            obtain ⟨σ21, eσ21, hd⟩ := wt_lt_o hd
            refine mr_gst (pc := 72) (k := 34) (i := (((w15.2.1 30)).toNatClampNeg)) hx hb hK hW hJ hS (vp_lt h19) rfl h20 eσ21 dX4_shop_72 (fun H locs hW hS => ?_)
            refine lv_aload_n (pc := 73) hx hb dX4_shop_73 rfl (lv_at hl 0 rfl) ?_
            refine mr_get (pc := 74) (k := 34) (v := .ref (X.1.2.1 34)) hx hb hts hown hK hW (by decide) rfl q1563 dX4_shop_74 ?_
            refine lv_aload_n (pc := 77) hx hb dX4_shop_77 rfl (lv_at hl 0 rfl) ?_
            refine mr_get (pc := 78) (k := 30) (v := .int ((σ21.1 30))) hx hb hts hown hK hW (by decide) rfl q1559 dX4_shop_78 ?_
            obtain ⟨h22, hd⟩ := wt_ck_o hd
            refine mr_row (pc := 81) (k := 34) hx hb hK hW rfl h22 dX4_shop_81 ?_
            refine lv_iconst (pc := 82) (v := 1) hx hb dX4_shop_82 (by decide) ?_
            refine lv_iload_n (pc := 83) hx hb dX4_shop_83 rfl (lv_at hl 2 rfl) ?_
            obtain ⟨h23, hd⟩ := wt_ck_o hd
            obtain ⟨σ24, eσ24, hd⟩ := wt_lt_o hd
            refine mr_gst (pc := 84) (k := 34) (i := (((σ21.1 30)).toNatClampNeg)) hx hb hK hW hJ hS (vp_lt h22) rfl h23 eσ24 dX4_shop_84 (fun H locs hW hS => ?_)
            refine lv_aload_n (pc := 85) hx hb dX4_shop_85 rfl (lv_at hl 0 rfl) ?_
            refine mr_get (pc := 86) (k := 34) (v := .ref (X.1.2.1 34)) hx hb hts hown hK hW (by decide) rfl q1563 dX4_shop_86 ?_
            refine lv_aload_n (pc := 89) hx hb dX4_shop_89 rfl (lv_at hl 0 rfl) ?_
            refine mr_get (pc := 90) (k := 30) (v := .int ((σ24.1 30))) hx hb hts hown hK hW (by decide) rfl q1559 dX4_shop_90 ?_
            obtain ⟨h25, hd⟩ := wt_ck_o hd
            refine mr_row (pc := 93) (k := 34) hx hb hK hW rfl h25 dX4_shop_93 ?_
            refine lv_iconst (pc := 94) (v := 2) hx hb dX4_shop_94 (by decide) ?_
            refine lv_iload_n (pc := 95) hx hb dX4_shop_95 rfl (lv_at hl 3 rfl) ?_
            obtain ⟨h26, hd⟩ := wt_ck_o hd
            obtain ⟨σ27, eσ27, hd⟩ := wt_lt_o hd
            refine mr_gst (pc := 96) (k := 34) (i := (((σ24.1 30)).toNatClampNeg)) hx hb hK hW hJ hS (vp_lt h25) rfl h26 eσ27 dX4_shop_96 (fun H locs hW hS => ?_)
            refine lv_aload_n (pc := 97) hx hb dX4_shop_97 rfl (lv_at hl 0 rfl) ?_
            refine lv_dup (pc := 98) hx hb dX4_shop_98 rfl ?_
            refine mr_get (pc := 99) (k := 30) (v := .int ((σ27.1 30))) hx hb hts hown hK hW (by decide) rfl q1559 dX4_shop_99 ?_
            refine lv_iconst (pc := 102) (v := 1) hx hb dX4_shop_102 (by decide) ?_
            refine lv_iadd (pc := 103) hx hb dX4_shop_103 ?_
            obtain ⟨σ28, eσ28, hd⟩ := wt_lt_o hd
            refine mr_put (pc := 104) (k := 30) hx hb hts hown hK hW hJ hS (by decide) rfl eσ28 q1559 dX4_shop_104 (fun H locs hW hS => ?_)
            refine lv_aload_n (pc := 107) hx hb dX4_shop_107 rfl (lv_at hl 0 rfl) ?_
            refine mr_get (pc := 108) (k := 30) (v := .int ((σ28.1 30))) hx hb hts hown hK hW (by decide) rfl q1559 dX4_shop_108 ?_
            have hd := wt_rs_r (Option.some.inj hd) hq6
            exact mr_iret hx hb hr rfl hlocks (wt_p1 hd) (wt_p2 hd) hW hK hS dX4_shop_111
          · have hd := wt_it hd c18
            refine lv_iconst (pc := 59) (v := -1) hx hb dX4_shop_59 (by decide) ?_
            have hd := wt_rs_r (Option.some.inj hd) hq6
            exact mr_iret hx hb hr rfl hlocks (wt_p1 hd) (wt_p2 hd) hW hK hS dX4_shop_60
        · have hd := wt_if hd c17
          refine lv_iconst (pc := 48) (v := 0) hx hb dX4_shop_48 (by decide) ?_
          have hd := wt_rs_r (Option.some.inj hd) hq6
          exact mr_iret hx hb hr rfl hlocks (wt_p1 hd) (wt_p2 hd) hW hK hS dX4_shop_49
      · have hd := wt_it hd c14
        exact hX7 () (Option.some.inj hd) _ _ _ hW hS hl
noncomputable def bX4_rare_1 (a0 : Int32) (w12 : Int32 × MSt) (v15 : Int64 × Int64 × Int32 × Int32 × Int32) : Option ((Int64 × Int64 × Int32 × Int32 × Int32) ⊕ (Int64 × Int64 × Int32 × Int32)) :=
  if (w12.2.1 30) ≤ v15.2.2.2.2 then (some (.inr (v15.1, v15.2.1, v15.2.2.1, v15.2.2.2.1))) else (wt_ck (vp_in v15.2.2.2.2 12) <| wt_ck (vp_in (0 : Int32) 3) <| if (w12.2.2.2 34 (v15.2.2.2.2.toNatClampNeg) (0 : Int32).toNatClampNeg) = a0 then (wt_ck (vp_in v15.2.2.2.2 12) <| wt_ck (vp_in (1 : Int32) 3) <| wt_lt ((v15.1 + (Int32.toInt64 (w12.2.2.2 34 (v15.2.2.2.2.toNatClampNeg) (1 : Int32).toNatClampNeg)))) fun n31 => wt_ck (vp_in v15.2.2.2.2 12) <| wt_ck (vp_in (2 : Int32) 3) <| wt_lt ((v15.2.1 + (Int32.toInt64 (w12.2.2.2 34 (v15.2.2.2.2.toNatClampNeg) (2 : Int32).toNatClampNeg)))) fun n34 => wt_ck (vp_in v15.2.2.2.2 12) <| wt_ck (vp_in (1 : Int32) 3) <| wt_ck (vp_in v15.2.2.2.2 12) <| wt_ck (vp_in (2 : Int32) 3) <| wt_ck (¬ (Int32.toInt64 (w12.2.2.2 34 (v15.2.2.2.2.toNatClampNeg) (2 : Int32).toNatClampNeg)) = 0) <| wt_lt ((Int64.toInt32 (((1000 : Int64) * (Int32.toInt64 (w12.2.2.2 34 (v15.2.2.2.2.toNatClampNeg) (1 : Int32).toNatClampNeg))) / (Int32.toInt64 (w12.2.2.2 34 (v15.2.2.2.2.toNatClampNeg) (2 : Int32).toNatClampNeg))))) fun n40 => wt_bd (if v15.2.2.1 = (-1 : Int32) then (some (.inl ())) else (if v15.2.2.1 ≤ n40 then (if n40 ≤ v15.2.2.2.1 then (wt_lt (v15.2.2.2.2 + (1 : Int32)) fun n48 => some (.inr (.inl (n31, n34, v15.2.2.1, v15.2.2.2.1, n48)))) else (wt_lt (v15.2.2.2.2 + (1 : Int32)) fun n49 => some (.inr (.inl (n31, n34, v15.2.2.1, n40, n49))))) else (some (.inl ())))) fun w41 => wt_rs w41 (fun w41 => if n40 ≤ v15.2.2.2.1 then (wt_lt (v15.2.2.2.2 + (1 : Int32)) fun n51 => some (.inl (n31, n34, n40, v15.2.2.2.1, n51))) else (wt_lt (v15.2.2.2.2 + (1 : Int32)) fun n52 => some (.inl (n31, n34, n40, n40, n52)))) (fun z_ => some z_)) else (wt_lt (v15.2.2.2.2 + (1 : Int32)) fun n53 => some (.inl (v15.1, v15.2.1, v15.2.2.1, v15.2.2.2.1, n53))))
noncomputable def bX4_rare_2 (a0 : Int32) (w58 : Int32 × MSt) (v61 : Int64 × Int64 × Int32 × Int32 × Int32) : Option ((Int64 × Int64 × Int32 × Int32 × Int32) ⊕ (Int64 × Int64 × Int32 × Int32)) :=
  if (w58.2.1 30) ≤ v61.2.2.2.2 then (some (.inr (v61.1, v61.2.1, v61.2.2.1, v61.2.2.2.1))) else (wt_ck (vp_in v61.2.2.2.2 12) <| wt_ck (vp_in (0 : Int32) 3) <| if (w58.2.2.2 34 (v61.2.2.2.2.toNatClampNeg) (0 : Int32).toNatClampNeg) = a0 then (wt_ck (vp_in v61.2.2.2.2 12) <| wt_ck (vp_in (1 : Int32) 3) <| wt_lt ((v61.1 + (Int32.toInt64 (w58.2.2.2 34 (v61.2.2.2.2.toNatClampNeg) (1 : Int32).toNatClampNeg)))) fun n77 => wt_ck (vp_in v61.2.2.2.2 12) <| wt_ck (vp_in (2 : Int32) 3) <| wt_lt ((v61.2.1 + (Int32.toInt64 (w58.2.2.2 34 (v61.2.2.2.2.toNatClampNeg) (2 : Int32).toNatClampNeg)))) fun n80 => wt_ck (vp_in v61.2.2.2.2 12) <| wt_ck (vp_in (1 : Int32) 3) <| wt_ck (vp_in v61.2.2.2.2 12) <| wt_ck (vp_in (2 : Int32) 3) <| wt_ck (¬ (Int32.toInt64 (w58.2.2.2 34 (v61.2.2.2.2.toNatClampNeg) (2 : Int32).toNatClampNeg)) = 0) <| wt_lt ((Int64.toInt32 (((1000 : Int64) * (Int32.toInt64 (w58.2.2.2 34 (v61.2.2.2.2.toNatClampNeg) (1 : Int32).toNatClampNeg))) / (Int32.toInt64 (w58.2.2.2 34 (v61.2.2.2.2.toNatClampNeg) (2 : Int32).toNatClampNeg))))) fun n86 => wt_bd (if v61.2.2.1 = (-1 : Int32) then (some (.inl ())) else (if v61.2.2.1 ≤ n86 then (if n86 ≤ v61.2.2.2.1 then (wt_lt (v61.2.2.2.2 + (1 : Int32)) fun n94 => some (.inr (.inl (n77, n80, v61.2.2.1, v61.2.2.2.1, n94)))) else (wt_lt (v61.2.2.2.2 + (1 : Int32)) fun n95 => some (.inr (.inl (n77, n80, v61.2.2.1, n86, n95))))) else (some (.inl ())))) fun w87 => wt_rs w87 (fun w87 => if n86 ≤ v61.2.2.2.1 then (wt_lt (v61.2.2.2.2 + (1 : Int32)) fun n97 => some (.inl (n77, n80, n86, v61.2.2.2.1, n97))) else (wt_lt (v61.2.2.2.2 + (1 : Int32)) fun n98 => some (.inl (n77, n80, n86, n86, n98)))) (fun z_ => some z_)) else (wt_lt (v61.2.2.2.2 + (1 : Int32)) fun n99 => some (.inl (v61.1, v61.2.1, v61.2.2.1, v61.2.2.2.1, n99))))
noncomputable def dX4_rare (σ : MSt) (a0 : Int32) (a1 : Int32) : Option (Int32 × MSt) :=
  wt_lt (m_sF σ 0 (0 : Int32)) fun σ1 => wt_bd (dX4_in a0 (0 : Int32) (9 : Int32)) fun w2 => wt_bd (if w2 = 0 then (some (.inl ())) else (wt_bd (dX4_in a1 (0 : Int32) (2 : Int32)) fun w9 => if w9 = 0 then (some (.inl ())) else (wt_bd (dX4_bad σ1 (0 : Int32) (1 : Int32)) fun w12 => if w12.1 = 0 then (wt_bd (wt_whC (bX4_rare_1 a0 w12) ((0 : Int64), (0 : Int64), (-1 : Int32), (-1 : Int32), (0 : Int32))) fun w16 => if (lg_cmp w16.2.1 (0 : Int64)) = 0 then (some (.inr ((-1 : Int32), w12.2))) else (if a1 = 0 then (wt_ck (¬ w16.2.1 = 0) <| some (.inr ((Int64.toInt32 (((1000 : Int64) * w16.1) / w16.2.1)), w12.2))) else (if a1 = (1 : Int32) then (some (.inr (w16.2.2.1, w12.2))) else (some (.inr (w16.2.2.2, w12.2)))))) else (some (.inr ((0 : Int32), w12.2)))))) fun w4 => wt_rs w4 (fun w4 => wt_bd (dX4_bad σ1 (1 : Int32) (1 : Int32)) fun w58 => if w58.1 = 0 then (wt_bd (wt_whC (bX4_rare_2 a0 w58) ((0 : Int64), (0 : Int64), (-1 : Int32), (-1 : Int32), (0 : Int32))) fun w62 => if (lg_cmp w62.2.1 (0 : Int64)) = 0 then (some ((-1 : Int32), w58.2)) else (if a1 = 0 then (wt_ck (¬ w62.2.1 = 0) <| some ((Int64.toInt32 (((1000 : Int64) * w62.1) / w62.2.1)), w58.2)) else (if a1 = (1 : Int32) then (some (w62.2.2.1, w58.2)) else (some (w62.2.2.2, w58.2))))) else (some ((0 : Int32), w58.2))) (fun z_ => some z_)
set_option maxHeartbeats 4000000 in
theorem wX4_rare (l : Launch) {X : MPar} {lo hi : Nat} (hJ : mJ X lo hi) {σ : MSt} {a0 : Int32} {a1 : Int32} {out_ : Int32 × MSt} (hd : dX4_rare σ a0 a1 = some out_) : Met l yX4_rare (ws_ yX4_rare cX4_rare 11 (some .int)) ({ frames := 1, cells := 0, slots := 0, locals := 22 }) (mP X σ [.ref X.1.1, .int a0, .int a1]) (mQi X out_.1 out_.2 (mA lo hi)) 0 0 (mA lo hi) := by
  refine Met.ofW (cc := cX4_rare) (maxL := 11) (ret := (some .int)) (by decide) rfl ?_
  intro p_ e_ s_ m_ args_ below_ meth_ c_ s₁_ B hml hv
  obtain ⟨rfl, hW, hK⟩ := hv
  have hx := B.exec
  have hb := B.bytes
  have hr := B.returns
  have hts := atoms_spec (ws := (ws_ yX4_rare cX4_rare 11 (some .int))) B.pre
  have hts : ∀ w ∈ lw_all, w.before _ s_ = true := fun w h => hts w (List.mem_cons_of_mem _ h)
  have hown : s_.vm.findClass RX4 = some m_.cls := findClass_of_methodNamed B.named
  have hlocks := B.notSynchronized
  have hS : va_S (mA lo hi) s_.heap s_.heap [] := va_S.rf
  have hl := lv_entry ([.ref X.1.1, .int a0, .int a1]) (n := 11) (Nat.le_of_ble_eq_true rfl)
  rw [lg_entry_eq]
  generalize (lg_sl ([.ref X.1.1, .int a0, .int a1]) ++ List.replicate (11 - (lg_sl ([.ref X.1.1, .int a0, .int a1])).length) Slot.unset).toArray = ls at hl ⊢
  have hl : lv_has ls 11 [(0, .ref X.1.1), (1, .int a0), (2, .int a1)] := hl
  unfold dX4_rare at hd
  refine lv_aload_n (pc := 0) hx hb dX4_rare_0 rfl (lv_at hl 0 rfl) ?_
  refine lv_iconst (pc := 1) (v := 0) hx hb dX4_rare_1 (by decide) ?_
  obtain ⟨σ1, eσ1, hd⟩ := wt_lt_o hd
  refine mr_put (pc := 2) (k := 0) hx hb hts hown hK hW hJ hS (by decide) rfl eσ1 q1529 dX4_rare_2 (fun H locs hW hS => ?_)
  refine lv_aload_n (pc := 5) hx hb dX4_rare_5 rfl (lv_at hl 0 rfl) ?_
  refine lv_iload_n (pc := 6) hx hb dX4_rare_6 rfl (lv_at hl 1 rfl) ?_
  refine lv_iconst (pc := 7) (v := 0) hx hb dX4_rare_7 (by decide) ?_
  refine lv_bipush (pc := 8) (v := 9) hx hb dX4_rare_8 (by decide) ?_
  obtain ⟨w2, hc3, hd⟩ := wt_bd_o hd
  refine kX4_in (pc := 10) hx hb hml hown hts hK hW hS hc3 hl.1 (Nat.le_of_ble_eq_true rfl) ⟨Nat.le_of_ble_eq_true rfl, Nat.le_of_ble_eq_true rfl⟩ ⟨Nat.le_refl _, Nat.le_refl _⟩ dX4_rare_10 (fun H locs hW hS => ?_)
  obtain ⟨w4, hj5, hq6⟩ := wt_bd_o hd
  have hX7 : ∀ w4_ : Unit, (Sum.inl w4_ : Unit ⊕ _) = w4 → ∀ (H : Heap) (locs : List Loc) (ls : Array Slot), mW X σ1 H → va_S (mA lo hi) s_.heap H locs → lv_has ls 11 [(0, .ref X.1.1), (1, .int a0), (2, .int a1)] → W p_ l e_ (headSpec (ws_ yX4_rare cX4_rare 11 (some .int)) ({ frames := 1, cells := 0, slots := 0, locals := 22 })).room s_ m_ ([.ref X.1.1, .int a0, .int a1] : List Value).toArray below_ meth_ c_ H locs 0 0 (MQ below_ (mQi X out_.1 out_.2 (mA lo hi)) ([.ref X.1.1, .int a0, .int a1] : List Value).toArray s_ 0 0 (mA lo hi)) (F0 m_ 25 ls [.ref X.1.1]) := by
    intro w4_ hw_
    have hd := wt_rs_l hw_ hq6
    clear hj5 hq6
    intro H locs ls hW hS hl
    refine lv_iconst (pc := 25) (v := 1) hx hb dX4_rare_25 (by decide) ?_
    refine lv_goto (pc := 26) (tgt := 30) hx hb dX4_rare_26 (by decide) ?_
    refine lv_iconst (pc := 30) (v := 1) hx hb dX4_rare_30 (by decide) ?_
    obtain ⟨w58, hc59, hd⟩ := wt_bd_o hd
    refine kX4_bad (pc := 31) hx hb hml hown hts hK hJ hW hS hc59 hl.1 (Nat.le_of_ble_eq_true rfl) ⟨Nat.le_of_ble_eq_true rfl, Nat.le_of_ble_eq_true rfl⟩ ⟨Nat.le_refl _, Nat.le_refl _⟩ dX4_rare_31 (fun H locs hW hS => ?_)
    refine lv_if_eq (pc := 34) (tgt := 39) hx hb dX4_rare_34 (by decide) (fun c60 => ?_) (fun c60 => ?_)
    · have hd := wt_it hd c60
      refine lv_lconst (pc := 39) (v := 0) hx hb dX4_rare_39 (by decide) ?_
      refine lv_lstore_n (pc := 40) (lv' := [(3, .long (0 : Int64)), (0, .ref X.1.1), (1, .int a0), (2, .int a1)]) hx hb dX4_rare_40 rfl hl (by decide) rfl (fun ls hl => ?_)
      refine lv_lconst (pc := 41) (v := 0) hx hb dX4_rare_41 (by decide) ?_
      refine lv_lstore (pc := 42) (lv' := [(5, .long (0 : Int64)), (3, .long (0 : Int64)), (0, .ref X.1.1), (1, .int a0), (2, .int a1)]) hx hb dX4_rare_42 hl (by decide) rfl (fun ls hl => ?_)
      refine lv_iconst (pc := 44) (v := -1) hx hb dX4_rare_44 (by decide) ?_
      refine lv_istore (pc := 45) (lv' := [(7, .int (-1 : Int32)), (5, .long (0 : Int64)), (3, .long (0 : Int64)), (0, .ref X.1.1), (1, .int a0), (2, .int a1)]) hx hb dX4_rare_45 hl (by decide) rfl (fun ls hl => ?_)
      refine lv_iconst (pc := 47) (v := -1) hx hb dX4_rare_47 (by decide) ?_
      refine lv_istore (pc := 48) (lv' := [(8, .int (-1 : Int32)), (7, .int (-1 : Int32)), (5, .long (0 : Int64)), (3, .long (0 : Int64)), (0, .ref X.1.1), (1, .int a0), (2, .int a1)]) hx hb dX4_rare_48 hl (by decide) rfl (fun ls hl => ?_)
      refine lv_iconst (pc := 50) (v := 0) hx hb dX4_rare_50 (by decide) ?_
      refine lv_istore (pc := 51) (lv' := [(9, .int (0 : Int32)), (8, .int (-1 : Int32)), (7, .int (-1 : Int32)), (5, .long (0 : Int64)), (3, .long (0 : Int64)), (0, .ref X.1.1), (1, .int a0), (2, .int a1)]) hx hb dX4_rare_51 hl (by decide) rfl (fun ls hl => ?_)
      obtain ⟨w62, hL63, hq64⟩ := wt_bd_o hd
      have hX65 : ∀ w62_ : Int64 × Int64 × Int32 × Int32, w62_ = w62 → ∀ (H : Heap) (locs : List Loc) (ls : Array Slot), mW X w58.2 H → va_S (mA lo hi) s_.heap H locs → lv_has ls 11 [(2, .int a1), (3, .long w62_.1), (5, .long w62_.2.1), (7, .int w62_.2.2.1), (8, .int w62_.2.2.2)] → W p_ l e_ (headSpec (ws_ yX4_rare cX4_rare 11 (some .int)) ({ frames := 1, cells := 0, slots := 0, locals := 22 })).room s_ m_ ([.ref X.1.1, .int a0, .int a1] : List Value).toArray below_ meth_ c_ H locs 0 0 (MQ below_ (mQi X out_.1 out_.2 (mA lo hi)) ([.ref X.1.1, .int a0, .int a1] : List Value).toArray s_ 0 0 (mA lo hi)) (F0 m_ 178 ls []) := by
        intro w62_ hw_
        have hd := hq64
        subst hw_
        clear hL63 hq64
        intro H locs ls hW hS hl
        refine lv_lload (pc := 178) hx hb dX4_rare_178 (lv_at hl 2 rfl) ?_
        refine lv_lconst (pc := 180) (v := 0) hx hb dX4_rare_180 (by decide) ?_
        refine W.lcmp (pc := 181) hx hb dX4_rare_181 ?_
        refine lv_if_ne (pc := 182) (tgt := 189) hx hb dX4_rare_182 (by decide) (fun c100 => ?_) (fun c100 => ?_)
        · have hd := wt_if hd c100
          refine lv_iload_n (pc := 189) hx hb dX4_rare_189 rfl (lv_at hl 0 rfl) ?_
          refine lv_if_ne (pc := 190) (tgt := 205) hx hb dX4_rare_190 (by decide) (fun c101 => ?_) (fun c101 => ?_)
          · have hd := wt_if hd c101
            refine lv_iload_n (pc := 205) hx hb dX4_rare_205 rfl (lv_at hl 0 rfl) ?_
            refine lv_iconst (pc := 206) (v := 1) hx hb dX4_rare_206 (by decide) ?_
            refine lv_icmp_ne (pc := 207) (tgt := 215) hx hb dX4_rare_207 (by decide) (fun c102 => ?_) (fun c102 => ?_)
            · have hd := wt_if hd c102
              refine lv_iload (pc := 215) hx hb dX4_rare_215 (lv_at hl 4 rfl) ?_
              exact mr_iret hx hb hr rfl hlocks (wt_p1 hd) (wt_p2 hd) hW hK hS dX4_rare_217
            · have hd := wt_it hd c102
              refine lv_iload (pc := 210) hx hb dX4_rare_210 (lv_at hl 3 rfl) ?_
              refine lv_goto (pc := 212) (tgt := 217) hx hb dX4_rare_212 (by decide) ?_
              exact mr_iret hx hb hr rfl hlocks (wt_p1 hd) (wt_p2 hd) hW hK hS dX4_rare_217
          · have hd := wt_it hd c101
            refine lv_ldc2 (pc := 193) hx hb hown (hts _ q1975) dX4_rare_193 ?_
            refine lv_lload_n (pc := 196) hx hb dX4_rare_196 rfl (lv_at hl 1 rfl) ?_
            refine lv_lmul (pc := 197) hx hb dX4_rare_197 ?_
            refine lv_lload (pc := 198) hx hb dX4_rare_198 (lv_at hl 2 rfl) ?_
            obtain ⟨h103, hd⟩ := wt_ck_o hd
            refine lv_ldiv (pc := 200) hx hb dX4_rare_200 h103 ?_
            refine lv_l2i (pc := 201) hx hb dX4_rare_201 rfl ?_
            refine lv_goto (pc := 202) (tgt := 217) hx hb dX4_rare_202 (by decide) ?_
            exact mr_iret hx hb hr rfl hlocks (wt_p1 hd) (wt_p2 hd) hW hK hS dX4_rare_217
        · have hd := wt_it hd c100
          refine lv_iconst (pc := 185) (v := -1) hx hb dX4_rare_185 (by decide) ?_
          refine lv_goto (pc := 186) (tgt := 217) hx hb dX4_rare_186 (by decide) ?_
          exact mr_iret hx hb hr rfl hlocks (wt_p1 hd) (wt_p2 hd) hW hK hS dX4_rare_217
      have hI70 : ∀ (k69 : Nat) (v61 : Int64 × Int64 × Int32 × Int32 × Int32), wt_wh (bX4_rare_2 a0 w58) k69 v61 = some w62 → ∀ (H : Heap) (locs : List Loc) (ls : Array Slot), mW X w58.2 H → va_S (mA lo hi) s_.heap H locs → lv_has ls 11 [(0, .ref X.1.1), (1, .int a0), (2, .int a1), (3, .long v61.1), (5, .long v61.2.1), (7, .int v61.2.2.1), (8, .int v61.2.2.2.1), (9, .int v61.2.2.2.2)] → W p_ l e_ (headSpec (ws_ yX4_rare cX4_rare 11 (some .int)) ({ frames := 1, cells := 0, slots := 0, locals := 22 })).room s_ m_ ([.ref X.1.1, .int a0, .int a1] : List Value).toArray below_ meth_ c_ H locs 0 0 (MQ below_ (mQi X out_.1 out_.2 (mA lo hi)) ([.ref X.1.1, .int a0, .int a1] : List Value).toArray s_ 0 0 (mA lo hi)) (F0 m_ 53 ls []) := by
        intro k69
        induction k69 with
        | zero => intro v61 hd; exact absurd hd wt_wh_z
        | succ k69 ih67 =>
          intro v61 hd
          intro H locs ls hW hS hl
          obtain ⟨r68, hd, hk66⟩ := wt_wh_o hd
          unfold bX4_rare_2 at hd
          refine lv_iload (pc := 53) hx hb dX4_rare_53 (lv_at hl 7 rfl) ?_
          refine lv_aload_n (pc := 55) hx hb dX4_rare_55 rfl (lv_at hl 0 rfl) ?_
          refine mr_get (pc := 56) (k := 30) (v := .int ((w58.2.1 30))) hx hb hts hown hK hW (by decide) rfl q1559 dX4_rare_56 ?_
          refine lv_icmp_ge (pc := 59) (tgt := 178) hx hb dX4_rare_59 (by decide) (fun c71 => ?_) (fun c71 => ?_)
          · have hd := wt_it hd c71
            exact hX65 (v61.1, v61.2.1, v61.2.2.1, v61.2.2.2.1) (wt_exit hd hk66) _ _ _ hW hS (lv_sub hl [2, 3, 4, 5, 6] rfl)
          · have hd := wt_if hd c71
            refine lv_aload_n (pc := 62) hx hb dX4_rare_62 rfl (lv_at hl 0 rfl) ?_
            refine mr_get (pc := 63) (k := 34) (v := .ref (X.1.2.1 34)) hx hb hts hown hK hW (by decide) rfl q1563 dX4_rare_63 ?_
            refine lv_iload (pc := 66) hx hb dX4_rare_66 (lv_at hl 7 rfl) ?_
            obtain ⟨h72, hd⟩ := wt_ck_o hd
            refine mr_row (pc := 68) (k := 34) hx hb hK hW rfl h72 dX4_rare_68 ?_
            refine lv_iconst (pc := 69) (v := 0) hx hb dX4_rare_69 (by decide) ?_
            obtain ⟨h73, hd⟩ := wt_ck_o hd
            refine mr_gld (pc := 70) (k := 34) (i := (v61.2.2.2.2.toNatClampNeg)) hx hb hK hW (vp_lt h72) rfl h73 dX4_rare_70 ?_
            refine lv_iload_n (pc := 71) hx hb dX4_rare_71 rfl (lv_at hl 1 rfl) ?_
            refine lv_icmp_eq (pc := 72) (tgt := 78) hx hb dX4_rare_72 (by decide) (fun c74 => ?_) (fun c74 => ?_)
            · have hd := wt_it hd c74
              refine lv_lload_n (pc := 78) hx hb dX4_rare_78 rfl (lv_at hl 3 rfl) ?_
              refine lv_aload_n (pc := 79) hx hb dX4_rare_79 rfl (lv_at hl 0 rfl) ?_
              refine mr_get (pc := 80) (k := 34) (v := .ref (X.1.2.1 34)) hx hb hts hown hK hW (by decide) rfl q1563 dX4_rare_80 ?_
              refine lv_iload (pc := 83) hx hb dX4_rare_83 (lv_at hl 7 rfl) ?_
              obtain ⟨h75, hd⟩ := wt_ck_o hd
              refine mr_row (pc := 85) (k := 34) hx hb hK hW rfl h75 dX4_rare_85 ?_
              refine lv_iconst (pc := 86) (v := 1) hx hb dX4_rare_86 (by decide) ?_
              obtain ⟨h76, hd⟩ := wt_ck_o hd
              refine mr_gld (pc := 87) (k := 34) (i := (v61.2.2.2.2.toNatClampNeg)) hx hb hK hW (vp_lt h75) rfl h76 dX4_rare_87 ?_
              refine lv_i2l (pc := 88) hx hb dX4_rare_88 rfl ?_
              refine lv_ladd (pc := 89) hx hb dX4_rare_89 ?_
              obtain ⟨n77, en77, hd⟩ := wt_lt_o hd
              refine lv_topel en77 ?_
              refine lv_lstore_n (pc := 90) (lv' := [(3, .long n77), (0, .ref X.1.1), (1, .int a0), (2, .int a1), (5, .long v61.2.1), (7, .int v61.2.2.1), (8, .int v61.2.2.2.1), (9, .int v61.2.2.2.2)]) hx hb dX4_rare_90 rfl hl (by decide) rfl (fun ls hl => ?_)
              refine lv_lload (pc := 91) hx hb dX4_rare_91 (lv_at hl 4 rfl) ?_
              refine lv_aload_n (pc := 93) hx hb dX4_rare_93 rfl (lv_at hl 1 rfl) ?_
              refine mr_get (pc := 94) (k := 34) (v := .ref (X.1.2.1 34)) hx hb hts hown hK hW (by decide) rfl q1563 dX4_rare_94 ?_
              refine lv_iload (pc := 97) hx hb dX4_rare_97 (lv_at hl 7 rfl) ?_
              obtain ⟨h78, hd⟩ := wt_ck_o hd
              refine mr_row (pc := 99) (k := 34) hx hb hK hW rfl h78 dX4_rare_99 ?_
              refine lv_iconst (pc := 100) (v := 2) hx hb dX4_rare_100 (by decide) ?_
              obtain ⟨h79, hd⟩ := wt_ck_o hd
              refine mr_gld (pc := 101) (k := 34) (i := (v61.2.2.2.2.toNatClampNeg)) hx hb hK hW (vp_lt h78) rfl h79 dX4_rare_101 ?_
              refine lv_i2l (pc := 102) hx hb dX4_rare_102 rfl ?_
              refine lv_ladd (pc := 103) hx hb dX4_rare_103 ?_
              obtain ⟨n80, en80, hd⟩ := wt_lt_o hd
              refine lv_topel en80 ?_
              refine lv_lstore (pc := 104) (lv' := [(5, .long n80), (3, .long n77), (0, .ref X.1.1), (1, .int a0), (2, .int a1), (7, .int v61.2.2.1), (8, .int v61.2.2.2.1), (9, .int v61.2.2.2.2)]) hx hb dX4_rare_104 hl (by decide) rfl (fun ls hl => ?_)
              refine lv_ldc2 (pc := 106) hx hb hown (hts _ q1975) dX4_rare_106 ?_
              refine lv_aload_n (pc := 109) hx hb dX4_rare_109 rfl (lv_at hl 2 rfl) ?_
              refine mr_get (pc := 110) (k := 34) (v := .ref (X.1.2.1 34)) hx hb hts hown hK hW (by decide) rfl q1563 dX4_rare_110 ?_
              refine lv_iload (pc := 113) hx hb dX4_rare_113 (lv_at hl 7 rfl) ?_
              obtain ⟨h81, hd⟩ := wt_ck_o hd
              refine mr_row (pc := 115) (k := 34) hx hb hK hW rfl h81 dX4_rare_115 ?_
              refine lv_iconst (pc := 116) (v := 1) hx hb dX4_rare_116 (by decide) ?_
              obtain ⟨h82, hd⟩ := wt_ck_o hd
              refine mr_gld (pc := 117) (k := 34) (i := (v61.2.2.2.2.toNatClampNeg)) hx hb hK hW (vp_lt h81) rfl h82 dX4_rare_117 ?_
              refine lv_i2l (pc := 118) hx hb dX4_rare_118 rfl ?_
              refine lv_lmul (pc := 119) hx hb dX4_rare_119 ?_
              refine lv_aload_n (pc := 120) hx hb dX4_rare_120 rfl (lv_at hl 2 rfl) ?_
              refine mr_get (pc := 121) (k := 34) (v := .ref (X.1.2.1 34)) hx hb hts hown hK hW (by decide) rfl q1563 dX4_rare_121 ?_
              refine lv_iload (pc := 124) hx hb dX4_rare_124 (lv_at hl 7 rfl) ?_
              obtain ⟨h83, hd⟩ := wt_ck_o hd
              refine mr_row (pc := 126) (k := 34) hx hb hK hW rfl h83 dX4_rare_126 ?_
              refine lv_iconst (pc := 127) (v := 2) hx hb dX4_rare_127 (by decide) ?_
              obtain ⟨h84, hd⟩ := wt_ck_o hd
              refine mr_gld (pc := 128) (k := 34) (i := (v61.2.2.2.2.toNatClampNeg)) hx hb hK hW (vp_lt h83) rfl h84 dX4_rare_128 ?_
              refine lv_i2l (pc := 129) hx hb dX4_rare_129 rfl ?_
              obtain ⟨h85, hd⟩ := wt_ck_o hd
              refine lv_ldiv (pc := 130) hx hb dX4_rare_130 h85 ?_
              refine lv_l2i (pc := 131) hx hb dX4_rare_131 rfl ?_
              obtain ⟨n86, en86, hd⟩ := wt_lt_o hd
              refine lv_tope en86 ?_
              refine lv_istore (pc := 132) (lv' := [(10, .int n86), (5, .long n80), (3, .long n77), (0, .ref X.1.1), (1, .int a0), (2, .int a1), (7, .int v61.2.2.1), (8, .int v61.2.2.2.1), (9, .int v61.2.2.2.2)]) hx hb dX4_rare_132 hl (by decide) rfl (fun ls hl => ?_)
              refine lv_iload (pc := 134) hx hb dX4_rare_134 (lv_at hl 6 rfl) ?_
              refine lv_iconst (pc := 136) (v := -1) hx hb dX4_rare_136 (by decide) ?_
              obtain ⟨w87, hj88, hq89⟩ := wt_bd_o hd
              have hX90 : ∀ w87_ : Unit, (Sum.inl w87_ : Unit ⊕ _) = w87 → ∀ (H : Heap) (locs : List Loc) (ls : Array Slot), mW X w58.2 H → va_S (mA lo hi) s_.heap H locs → lv_has ls 11 [(0, .ref X.1.1), (1, .int a0), (2, .int a1), (3, .long n77), (5, .long n80), (8, .int v61.2.2.2.1), (9, .int v61.2.2.2.2), (10, .int n86)] → W p_ l e_ (headSpec (ws_ yX4_rare cX4_rare 11 (some .int)) ({ frames := 1, cells := 0, slots := 0, locals := 22 })).room s_ m_ ([.ref X.1.1, .int a0, .int a1] : List Value).toArray below_ meth_ c_ H locs 0 0 (MQ below_ (mQi X out_.1 out_.2 (mA lo hi)) ([.ref X.1.1, .int a0, .int a1] : List Value).toArray s_ 0 0 (mA lo hi)) (F0 m_ 147 ls []) := by
                intro w87_ hw_
                have hd := wt_rs_l hw_ hq89
                clear hj88 hq89
                intro H locs ls hW hS hl
                refine lv_iload (pc := 147) hx hb dX4_rare_147 (lv_at hl 7 rfl) ?_
                refine lv_goto (pc := 149) (tgt := 154) hx hb dX4_rare_149 (by decide) ?_
                refine lv_istore (pc := 154) (lv' := [(7, .int n86), (0, .ref X.1.1), (1, .int a0), (2, .int a1), (3, .long n77), (5, .long n80), (8, .int v61.2.2.2.1), (9, .int v61.2.2.2.2), (10, .int n86)]) hx hb dX4_rare_154 hl (by decide) rfl (fun ls hl => ?_)
                refine lv_iload (pc := 156) hx hb dX4_rare_156 (lv_at hl 8 rfl) ?_
                refine lv_iload (pc := 158) hx hb dX4_rare_158 (lv_at hl 6 rfl) ?_
                refine lv_icmp_le (pc := 160) (tgt := 168) hx hb dX4_rare_160 (by decide) (fun c96 => ?_) (fun c96 => ?_)
                · have hd := wt_it hd c96
                  refine lv_iload (pc := 168) hx hb dX4_rare_168 (lv_at hl 6 rfl) ?_
                  refine lv_istore (pc := 170) (lv' := [(8, .int v61.2.2.2.1), (7, .int n86), (0, .ref X.1.1), (1, .int a0), (2, .int a1), (3, .long n77), (5, .long n80), (9, .int v61.2.2.2.2), (10, .int n86)]) hx hb dX4_rare_170 hl (by decide) rfl (fun ls hl => ?_)
                  obtain ⟨n97, en97, hd⟩ := wt_lt_o hd
                  refine lv_iinc (pc := 172) (k := 7) (v := n97) (lv' := [(9, .int n97), (8, .int v61.2.2.2.1), (7, .int n86), (0, .ref X.1.1), (1, .int a0), (2, .int a1), (3, .long n77), (5, .long n80), (10, .int n86)]) hx hb dX4_rare_172 hl rfl en97.symm (by decide) rfl (fun ls hl => ?_)
                  refine lv_goto (pc := 175) (tgt := 53) hx hb dX4_rare_175 (by decide) ?_
                  exact ih67 _ (wt_again hd hk66) _ _ _ hW hS (lv_sub hl [3, 4, 5, 6, 7, 2, 1, 0] rfl)
                · have hd := wt_if hd c96
                  refine lv_iload (pc := 163) hx hb dX4_rare_163 (lv_at hl 8 rfl) ?_
                  refine lv_goto (pc := 165) (tgt := 170) hx hb dX4_rare_165 (by decide) ?_
                  refine lv_istore (pc := 170) (lv' := [(8, .int n86), (7, .int n86), (0, .ref X.1.1), (1, .int a0), (2, .int a1), (3, .long n77), (5, .long n80), (9, .int v61.2.2.2.2), (10, .int n86)]) hx hb dX4_rare_170 hl (by decide) rfl (fun ls hl => ?_)
                  obtain ⟨n98, en98, hd⟩ := wt_lt_o hd
                  refine lv_iinc (pc := 172) (k := 7) (v := n98) (lv' := [(9, .int n98), (8, .int n86), (7, .int n86), (0, .ref X.1.1), (1, .int a0), (2, .int a1), (3, .long n77), (5, .long n80), (10, .int n86)]) hx hb dX4_rare_172 hl rfl en98.symm (by decide) rfl (fun ls hl => ?_)
                  refine lv_goto (pc := 175) (tgt := 53) hx hb dX4_rare_175 (by decide) ?_
                  exact ih67 _ (wt_again hd hk66) _ _ _ hW hS (lv_sub hl [3, 4, 5, 6, 7, 2, 1, 0] rfl)
              have hd := hj88
              refine lv_icmp_eq (pc := 137) (tgt := 147) hx hb dX4_rare_137 (by decide) (fun c91 => ?_) (fun c91 => ?_)
              · have hd := wt_it hd c91
                exact hX90 () (Option.some.inj hd) _ _ _ hW hS (lv_sub hl [3, 4, 5, 2, 1, 7, 8, 0] rfl)
              · have hd := wt_if hd c91
                refine lv_iload (pc := 140) hx hb dX4_rare_140 (lv_at hl 0 rfl) ?_
                refine lv_iload (pc := 142) hx hb dX4_rare_142 (lv_at hl 6 rfl) ?_
                refine lv_icmp_ge (pc := 144) (tgt := 152) hx hb dX4_rare_144 (by decide) (fun c92 => ?_) (fun c92 => ?_)
                · have hd := wt_it hd c92
                  refine lv_iload (pc := 152) hx hb dX4_rare_152 (lv_at hl 6 rfl) ?_
                  refine lv_istore (pc := 154) (lv' := [(7, .int v61.2.2.1), (10, .int n86), (5, .long n80), (3, .long n77), (0, .ref X.1.1), (1, .int a0), (2, .int a1), (8, .int v61.2.2.2.1), (9, .int v61.2.2.2.2)]) hx hb dX4_rare_154 hl (by decide) rfl (fun ls hl => ?_)
                  refine lv_iload (pc := 156) hx hb dX4_rare_156 (lv_at hl 1 rfl) ?_
                  refine lv_iload (pc := 158) hx hb dX4_rare_158 (lv_at hl 7 rfl) ?_
                  refine lv_icmp_le (pc := 160) (tgt := 168) hx hb dX4_rare_160 (by decide) (fun c93 => ?_) (fun c93 => ?_)
                  · have hd := wt_it hd c93
                    refine lv_iload (pc := 168) hx hb dX4_rare_168 (lv_at hl 7 rfl) ?_
                    refine lv_istore (pc := 170) (lv' := [(8, .int v61.2.2.2.1), (7, .int v61.2.2.1), (10, .int n86), (5, .long n80), (3, .long n77), (0, .ref X.1.1), (1, .int a0), (2, .int a1), (9, .int v61.2.2.2.2)]) hx hb dX4_rare_170 hl (by decide) rfl (fun ls hl => ?_)
                    obtain ⟨n94, en94, hd⟩ := wt_lt_o hd
                    refine lv_iinc (pc := 172) (k := 8) (v := n94) (lv' := [(9, .int n94), (8, .int v61.2.2.2.1), (7, .int v61.2.2.1), (10, .int n86), (5, .long n80), (3, .long n77), (0, .ref X.1.1), (1, .int a0), (2, .int a1)]) hx hb dX4_rare_172 hl rfl en94.symm (by decide) rfl (fun ls hl => ?_)
                    refine lv_goto (pc := 175) (tgt := 53) hx hb dX4_rare_175 (by decide) ?_
                    have hd := wt_rs_r (Option.some.inj hd) hq89
                    exact ih67 _ (wt_again hd hk66) _ _ _ hW hS (lv_sub hl [6, 7, 8, 5, 4, 2, 1, 0] rfl)
                  · have hd := wt_if hd c93
                    refine lv_iload (pc := 163) hx hb dX4_rare_163 (lv_at hl 1 rfl) ?_
                    refine lv_goto (pc := 165) (tgt := 170) hx hb dX4_rare_165 (by decide) ?_
                    refine lv_istore (pc := 170) (lv' := [(8, .int n86), (7, .int v61.2.2.1), (10, .int n86), (5, .long n80), (3, .long n77), (0, .ref X.1.1), (1, .int a0), (2, .int a1), (9, .int v61.2.2.2.2)]) hx hb dX4_rare_170 hl (by decide) rfl (fun ls hl => ?_)
                    obtain ⟨n95, en95, hd⟩ := wt_lt_o hd
                    refine lv_iinc (pc := 172) (k := 8) (v := n95) (lv' := [(9, .int n95), (8, .int n86), (7, .int v61.2.2.1), (10, .int n86), (5, .long n80), (3, .long n77), (0, .ref X.1.1), (1, .int a0), (2, .int a1)]) hx hb dX4_rare_172 hl rfl en95.symm (by decide) rfl (fun ls hl => ?_)
                    refine lv_goto (pc := 175) (tgt := 53) hx hb dX4_rare_175 (by decide) ?_
                    have hd := wt_rs_r (Option.some.inj hd) hq89
                    exact ih67 _ (wt_again hd hk66) _ _ _ hW hS (lv_sub hl [6, 7, 8, 5, 4, 2, 1, 0] rfl)
                · have hd := wt_if hd c92
                  exact hX90 () (Option.some.inj hd) _ _ _ hW hS (lv_sub hl [3, 4, 5, 2, 1, 7, 8, 0] rfl)
            · have hd := wt_if hd c74
              refine lv_goto (pc := 75) (tgt := 172) hx hb dX4_rare_75 (by decide) ?_
              obtain ⟨n99, en99, hd⟩ := wt_lt_o hd
              refine lv_iinc (pc := 172) (k := 7) (v := n99) (lv' := [(9, .int n99), (0, .ref X.1.1), (1, .int a0), (2, .int a1), (3, .long v61.1), (5, .long v61.2.1), (7, .int v61.2.2.1), (8, .int v61.2.2.2.1)]) hx hb dX4_rare_172 hl rfl en99.symm (by decide) rfl (fun ls hl => ?_)
              refine lv_goto (pc := 175) (tgt := 53) hx hb dX4_rare_175 (by decide) ?_
              exact ih67 _ (wt_again hd hk66) _ _ _ hW hS (lv_sub hl [1, 2, 3, 4, 5, 6, 7, 0] rfl)
      obtain ⟨k69, hL63⟩ := wt_whC_o hL63
      exact hI70 k69 _ hL63 _ _ _ hW hS (lv_sub hl [5, 6, 7, 4, 3, 2, 1, 0] rfl)
    · have hd := wt_if hd c60
      refine lv_iconst (pc := 37) (v := 0) hx hb dX4_rare_37 (by decide) ?_
      exact mr_iret hx hb hr rfl hlocks (wt_p1 hd) (wt_p2 hd) hW hK hS dX4_rare_38
  have hd := hj5
  refine lv_if_eq (pc := 13) (tgt := 25) hx hb dX4_rare_13 (by decide) (fun c8 => ?_) (fun c8 => ?_)
  · have hd := wt_it hd c8
    exact hX7 () (Option.some.inj hd) _ _ _ hW hS hl
  · have hd := wt_if hd c8
    refine lv_iload_n (pc := 16) hx hb dX4_rare_16 rfl (lv_at hl 2 rfl) ?_
    refine lv_iconst (pc := 17) (v := 0) hx hb dX4_rare_17 (by decide) ?_
    refine lv_iconst (pc := 18) (v := 2) hx hb dX4_rare_18 (by decide) ?_
    obtain ⟨w9, hc10, hd⟩ := wt_bd_o hd
    refine kX4_in (pc := 19) hx hb hml hown hts hK hW hS hc10 hl.1 (Nat.le_of_ble_eq_true rfl) ⟨Nat.le_of_ble_eq_true rfl, Nat.le_of_ble_eq_true rfl⟩ ⟨Nat.le_refl _, Nat.le_refl _⟩ dX4_rare_19 (fun H locs hW hS => ?_)
    refine lv_if_ne (pc := 22) (tgt := 29) hx hb dX4_rare_22 (by decide) (fun c11 => ?_) (fun c11 => ?_)
    · have hd := wt_if hd c11
      refine lv_iconst (pc := 29) (v := 0) hx hb dX4_rare_29 (by decide) ?_
      refine lv_iconst (pc := 30) (v := 1) hx hb dX4_rare_30 (by decide) ?_
      obtain ⟨w12, hc13, hd⟩ := wt_bd_o hd
      refine kX4_bad (pc := 31) hx hb hml hown hts hK hJ hW hS hc13 hl.1 (Nat.le_of_ble_eq_true rfl) ⟨Nat.le_of_ble_eq_true rfl, Nat.le_of_ble_eq_true rfl⟩ ⟨Nat.le_refl _, Nat.le_refl _⟩ dX4_rare_31 (fun H locs hW hS => ?_)
      refine lv_if_eq (pc := 34) (tgt := 39) hx hb dX4_rare_34 (by decide) (fun c14 => ?_) (fun c14 => ?_)
      · have hd := wt_it hd c14
        refine lv_lconst (pc := 39) (v := 0) hx hb dX4_rare_39 (by decide) ?_
        refine lv_lstore_n (pc := 40) (lv' := [(3, .long (0 : Int64)), (0, .ref X.1.1), (1, .int a0), (2, .int a1)]) hx hb dX4_rare_40 rfl hl (by decide) rfl (fun ls hl => ?_)
        refine lv_lconst (pc := 41) (v := 0) hx hb dX4_rare_41 (by decide) ?_
        refine lv_lstore (pc := 42) (lv' := [(5, .long (0 : Int64)), (3, .long (0 : Int64)), (0, .ref X.1.1), (1, .int a0), (2, .int a1)]) hx hb dX4_rare_42 hl (by decide) rfl (fun ls hl => ?_)
        refine lv_iconst (pc := 44) (v := -1) hx hb dX4_rare_44 (by decide) ?_
        refine lv_istore (pc := 45) (lv' := [(7, .int (-1 : Int32)), (5, .long (0 : Int64)), (3, .long (0 : Int64)), (0, .ref X.1.1), (1, .int a0), (2, .int a1)]) hx hb dX4_rare_45 hl (by decide) rfl (fun ls hl => ?_)
        refine lv_iconst (pc := 47) (v := -1) hx hb dX4_rare_47 (by decide) ?_
        refine lv_istore (pc := 48) (lv' := [(8, .int (-1 : Int32)), (7, .int (-1 : Int32)), (5, .long (0 : Int64)), (3, .long (0 : Int64)), (0, .ref X.1.1), (1, .int a0), (2, .int a1)]) hx hb dX4_rare_48 hl (by decide) rfl (fun ls hl => ?_)
        refine lv_iconst (pc := 50) (v := 0) hx hb dX4_rare_50 (by decide) ?_
        refine lv_istore (pc := 51) (lv' := [(9, .int (0 : Int32)), (8, .int (-1 : Int32)), (7, .int (-1 : Int32)), (5, .long (0 : Int64)), (3, .long (0 : Int64)), (0, .ref X.1.1), (1, .int a0), (2, .int a1)]) hx hb dX4_rare_51 hl (by decide) rfl (fun ls hl => ?_)
        obtain ⟨w16, hL17, hq18⟩ := wt_bd_o hd
        have hX19 : ∀ w16_ : Int64 × Int64 × Int32 × Int32, w16_ = w16 → ∀ (H : Heap) (locs : List Loc) (ls : Array Slot), mW X w12.2 H → va_S (mA lo hi) s_.heap H locs → lv_has ls 11 [(2, .int a1), (3, .long w16_.1), (5, .long w16_.2.1), (7, .int w16_.2.2.1), (8, .int w16_.2.2.2)] → W p_ l e_ (headSpec (ws_ yX4_rare cX4_rare 11 (some .int)) ({ frames := 1, cells := 0, slots := 0, locals := 22 })).room s_ m_ ([.ref X.1.1, .int a0, .int a1] : List Value).toArray below_ meth_ c_ H locs 0 0 (MQ below_ (mQi X out_.1 out_.2 (mA lo hi)) ([.ref X.1.1, .int a0, .int a1] : List Value).toArray s_ 0 0 (mA lo hi)) (F0 m_ 178 ls []) := by
          intro w16_ hw_
          have hd := hq18
          subst hw_
          clear hL17 hq18
          intro H locs ls hW hS hl
          refine lv_lload (pc := 178) hx hb dX4_rare_178 (lv_at hl 2 rfl) ?_
          refine lv_lconst (pc := 180) (v := 0) hx hb dX4_rare_180 (by decide) ?_
          refine W.lcmp (pc := 181) hx hb dX4_rare_181 ?_
          refine lv_if_ne (pc := 182) (tgt := 189) hx hb dX4_rare_182 (by decide) (fun c54 => ?_) (fun c54 => ?_)
          · have hd := wt_if hd c54
            refine lv_iload_n (pc := 189) hx hb dX4_rare_189 rfl (lv_at hl 0 rfl) ?_
            refine lv_if_ne (pc := 190) (tgt := 205) hx hb dX4_rare_190 (by decide) (fun c55 => ?_) (fun c55 => ?_)
            · have hd := wt_if hd c55
              refine lv_iload_n (pc := 205) hx hb dX4_rare_205 rfl (lv_at hl 0 rfl) ?_
              refine lv_iconst (pc := 206) (v := 1) hx hb dX4_rare_206 (by decide) ?_
              refine lv_icmp_ne (pc := 207) (tgt := 215) hx hb dX4_rare_207 (by decide) (fun c56 => ?_) (fun c56 => ?_)
              · have hd := wt_if hd c56
                refine lv_iload (pc := 215) hx hb dX4_rare_215 (lv_at hl 4 rfl) ?_
                have hd := wt_rs_r (Option.some.inj hd) hq6
                exact mr_iret hx hb hr rfl hlocks (wt_p1 hd) (wt_p2 hd) hW hK hS dX4_rare_217
              · have hd := wt_it hd c56
                refine lv_iload (pc := 210) hx hb dX4_rare_210 (lv_at hl 3 rfl) ?_
                refine lv_goto (pc := 212) (tgt := 217) hx hb dX4_rare_212 (by decide) ?_
                have hd := wt_rs_r (Option.some.inj hd) hq6
                exact mr_iret hx hb hr rfl hlocks (wt_p1 hd) (wt_p2 hd) hW hK hS dX4_rare_217
            · have hd := wt_it hd c55
              refine lv_ldc2 (pc := 193) hx hb hown (hts _ q1975) dX4_rare_193 ?_
              refine lv_lload_n (pc := 196) hx hb dX4_rare_196 rfl (lv_at hl 1 rfl) ?_
              refine lv_lmul (pc := 197) hx hb dX4_rare_197 ?_
              refine lv_lload (pc := 198) hx hb dX4_rare_198 (lv_at hl 2 rfl) ?_
              obtain ⟨h57, hd⟩ := wt_ck_o hd
              refine lv_ldiv (pc := 200) hx hb dX4_rare_200 h57 ?_
              refine lv_l2i (pc := 201) hx hb dX4_rare_201 rfl ?_
              refine lv_goto (pc := 202) (tgt := 217) hx hb dX4_rare_202 (by decide) ?_
              have hd := wt_rs_r (Option.some.inj hd) hq6
              exact mr_iret hx hb hr rfl hlocks (wt_p1 hd) (wt_p2 hd) hW hK hS dX4_rare_217
          · have hd := wt_it hd c54
            refine lv_iconst (pc := 185) (v := -1) hx hb dX4_rare_185 (by decide) ?_
            refine lv_goto (pc := 186) (tgt := 217) hx hb dX4_rare_186 (by decide) ?_
            have hd := wt_rs_r (Option.some.inj hd) hq6
            exact mr_iret hx hb hr rfl hlocks (wt_p1 hd) (wt_p2 hd) hW hK hS dX4_rare_217
        have hI24 : ∀ (k23 : Nat) (v15 : Int64 × Int64 × Int32 × Int32 × Int32), wt_wh (bX4_rare_1 a0 w12) k23 v15 = some w16 → ∀ (H : Heap) (locs : List Loc) (ls : Array Slot), mW X w12.2 H → va_S (mA lo hi) s_.heap H locs → lv_has ls 11 [(0, .ref X.1.1), (1, .int a0), (2, .int a1), (3, .long v15.1), (5, .long v15.2.1), (7, .int v15.2.2.1), (8, .int v15.2.2.2.1), (9, .int v15.2.2.2.2)] → W p_ l e_ (headSpec (ws_ yX4_rare cX4_rare 11 (some .int)) ({ frames := 1, cells := 0, slots := 0, locals := 22 })).room s_ m_ ([.ref X.1.1, .int a0, .int a1] : List Value).toArray below_ meth_ c_ H locs 0 0 (MQ below_ (mQi X out_.1 out_.2 (mA lo hi)) ([.ref X.1.1, .int a0, .int a1] : List Value).toArray s_ 0 0 (mA lo hi)) (F0 m_ 53 ls []) := by
          intro k23
          induction k23 with
          | zero => intro v15 hd; exact absurd hd wt_wh_z
          | succ k23 ih21 =>
            intro v15 hd
            intro H locs ls hW hS hl
            obtain ⟨r22, hd, hk20⟩ := wt_wh_o hd
            unfold bX4_rare_1 at hd
            refine lv_iload (pc := 53) hx hb dX4_rare_53 (lv_at hl 7 rfl) ?_
            refine lv_aload_n (pc := 55) hx hb dX4_rare_55 rfl (lv_at hl 0 rfl) ?_
            refine mr_get (pc := 56) (k := 30) (v := .int ((w12.2.1 30))) hx hb hts hown hK hW (by decide) rfl q1559 dX4_rare_56 ?_
            refine lv_icmp_ge (pc := 59) (tgt := 178) hx hb dX4_rare_59 (by decide) (fun c25 => ?_) (fun c25 => ?_)
            · have hd := wt_it hd c25
              exact hX19 (v15.1, v15.2.1, v15.2.2.1, v15.2.2.2.1) (wt_exit hd hk20) _ _ _ hW hS (lv_sub hl [2, 3, 4, 5, 6] rfl)
            · have hd := wt_if hd c25
              refine lv_aload_n (pc := 62) hx hb dX4_rare_62 rfl (lv_at hl 0 rfl) ?_
              refine mr_get (pc := 63) (k := 34) (v := .ref (X.1.2.1 34)) hx hb hts hown hK hW (by decide) rfl q1563 dX4_rare_63 ?_
              refine lv_iload (pc := 66) hx hb dX4_rare_66 (lv_at hl 7 rfl) ?_
              obtain ⟨h26, hd⟩ := wt_ck_o hd
              refine mr_row (pc := 68) (k := 34) hx hb hK hW rfl h26 dX4_rare_68 ?_
              refine lv_iconst (pc := 69) (v := 0) hx hb dX4_rare_69 (by decide) ?_
              obtain ⟨h27, hd⟩ := wt_ck_o hd
              refine mr_gld (pc := 70) (k := 34) (i := (v15.2.2.2.2.toNatClampNeg)) hx hb hK hW (vp_lt h26) rfl h27 dX4_rare_70 ?_
              refine lv_iload_n (pc := 71) hx hb dX4_rare_71 rfl (lv_at hl 1 rfl) ?_
              refine lv_icmp_eq (pc := 72) (tgt := 78) hx hb dX4_rare_72 (by decide) (fun c28 => ?_) (fun c28 => ?_)
              · have hd := wt_it hd c28
                refine lv_lload_n (pc := 78) hx hb dX4_rare_78 rfl (lv_at hl 3 rfl) ?_
                refine lv_aload_n (pc := 79) hx hb dX4_rare_79 rfl (lv_at hl 0 rfl) ?_
                refine mr_get (pc := 80) (k := 34) (v := .ref (X.1.2.1 34)) hx hb hts hown hK hW (by decide) rfl q1563 dX4_rare_80 ?_
                refine lv_iload (pc := 83) hx hb dX4_rare_83 (lv_at hl 7 rfl) ?_
                obtain ⟨h29, hd⟩ := wt_ck_o hd
                refine mr_row (pc := 85) (k := 34) hx hb hK hW rfl h29 dX4_rare_85 ?_
                refine lv_iconst (pc := 86) (v := 1) hx hb dX4_rare_86 (by decide) ?_
                obtain ⟨h30, hd⟩ := wt_ck_o hd
                refine mr_gld (pc := 87) (k := 34) (i := (v15.2.2.2.2.toNatClampNeg)) hx hb hK hW (vp_lt h29) rfl h30 dX4_rare_87 ?_
                refine lv_i2l (pc := 88) hx hb dX4_rare_88 rfl ?_
                refine lv_ladd (pc := 89) hx hb dX4_rare_89 ?_
                obtain ⟨n31, en31, hd⟩ := wt_lt_o hd
                refine lv_topel en31 ?_
                refine lv_lstore_n (pc := 90) (lv' := [(3, .long n31), (0, .ref X.1.1), (1, .int a0), (2, .int a1), (5, .long v15.2.1), (7, .int v15.2.2.1), (8, .int v15.2.2.2.1), (9, .int v15.2.2.2.2)]) hx hb dX4_rare_90 rfl hl (by decide) rfl (fun ls hl => ?_)
                refine lv_lload (pc := 91) hx hb dX4_rare_91 (lv_at hl 4 rfl) ?_
                refine lv_aload_n (pc := 93) hx hb dX4_rare_93 rfl (lv_at hl 1 rfl) ?_
                refine mr_get (pc := 94) (k := 34) (v := .ref (X.1.2.1 34)) hx hb hts hown hK hW (by decide) rfl q1563 dX4_rare_94 ?_
                refine lv_iload (pc := 97) hx hb dX4_rare_97 (lv_at hl 7 rfl) ?_
                obtain ⟨h32, hd⟩ := wt_ck_o hd
                refine mr_row (pc := 99) (k := 34) hx hb hK hW rfl h32 dX4_rare_99 ?_
                refine lv_iconst (pc := 100) (v := 2) hx hb dX4_rare_100 (by decide) ?_
                obtain ⟨h33, hd⟩ := wt_ck_o hd
                refine mr_gld (pc := 101) (k := 34) (i := (v15.2.2.2.2.toNatClampNeg)) hx hb hK hW (vp_lt h32) rfl h33 dX4_rare_101 ?_
                refine lv_i2l (pc := 102) hx hb dX4_rare_102 rfl ?_
                refine lv_ladd (pc := 103) hx hb dX4_rare_103 ?_
                obtain ⟨n34, en34, hd⟩ := wt_lt_o hd
                refine lv_topel en34 ?_
                refine lv_lstore (pc := 104) (lv' := [(5, .long n34), (3, .long n31), (0, .ref X.1.1), (1, .int a0), (2, .int a1), (7, .int v15.2.2.1), (8, .int v15.2.2.2.1), (9, .int v15.2.2.2.2)]) hx hb dX4_rare_104 hl (by decide) rfl (fun ls hl => ?_)
                refine lv_ldc2 (pc := 106) hx hb hown (hts _ q1975) dX4_rare_106 ?_
                refine lv_aload_n (pc := 109) hx hb dX4_rare_109 rfl (lv_at hl 2 rfl) ?_
                refine mr_get (pc := 110) (k := 34) (v := .ref (X.1.2.1 34)) hx hb hts hown hK hW (by decide) rfl q1563 dX4_rare_110 ?_
                refine lv_iload (pc := 113) hx hb dX4_rare_113 (lv_at hl 7 rfl) ?_
                obtain ⟨h35, hd⟩ := wt_ck_o hd
                refine mr_row (pc := 115) (k := 34) hx hb hK hW rfl h35 dX4_rare_115 ?_
                refine lv_iconst (pc := 116) (v := 1) hx hb dX4_rare_116 (by decide) ?_
                obtain ⟨h36, hd⟩ := wt_ck_o hd
                refine mr_gld (pc := 117) (k := 34) (i := (v15.2.2.2.2.toNatClampNeg)) hx hb hK hW (vp_lt h35) rfl h36 dX4_rare_117 ?_
                refine lv_i2l (pc := 118) hx hb dX4_rare_118 rfl ?_
                refine lv_lmul (pc := 119) hx hb dX4_rare_119 ?_
                refine lv_aload_n (pc := 120) hx hb dX4_rare_120 rfl (lv_at hl 2 rfl) ?_
                refine mr_get (pc := 121) (k := 34) (v := .ref (X.1.2.1 34)) hx hb hts hown hK hW (by decide) rfl q1563 dX4_rare_121 ?_
                refine lv_iload (pc := 124) hx hb dX4_rare_124 (lv_at hl 7 rfl) ?_
                obtain ⟨h37, hd⟩ := wt_ck_o hd
                refine mr_row (pc := 126) (k := 34) hx hb hK hW rfl h37 dX4_rare_126 ?_
                refine lv_iconst (pc := 127) (v := 2) hx hb dX4_rare_127 (by decide) ?_
                obtain ⟨h38, hd⟩ := wt_ck_o hd
                refine mr_gld (pc := 128) (k := 34) (i := (v15.2.2.2.2.toNatClampNeg)) hx hb hK hW (vp_lt h37) rfl h38 dX4_rare_128 ?_
                refine lv_i2l (pc := 129) hx hb dX4_rare_129 rfl ?_
                obtain ⟨h39, hd⟩ := wt_ck_o hd
                refine lv_ldiv (pc := 130) hx hb dX4_rare_130 h39 ?_
                refine lv_l2i (pc := 131) hx hb dX4_rare_131 rfl ?_
                obtain ⟨n40, en40, hd⟩ := wt_lt_o hd
                refine lv_tope en40 ?_
                refine lv_istore (pc := 132) (lv' := [(10, .int n40), (5, .long n34), (3, .long n31), (0, .ref X.1.1), (1, .int a0), (2, .int a1), (7, .int v15.2.2.1), (8, .int v15.2.2.2.1), (9, .int v15.2.2.2.2)]) hx hb dX4_rare_132 hl (by decide) rfl (fun ls hl => ?_)
                refine lv_iload (pc := 134) hx hb dX4_rare_134 (lv_at hl 6 rfl) ?_
                refine lv_iconst (pc := 136) (v := -1) hx hb dX4_rare_136 (by decide) ?_
                obtain ⟨w41, hj42, hq43⟩ := wt_bd_o hd
                have hX44 : ∀ w41_ : Unit, (Sum.inl w41_ : Unit ⊕ _) = w41 → ∀ (H : Heap) (locs : List Loc) (ls : Array Slot), mW X w12.2 H → va_S (mA lo hi) s_.heap H locs → lv_has ls 11 [(0, .ref X.1.1), (1, .int a0), (2, .int a1), (3, .long n31), (5, .long n34), (8, .int v15.2.2.2.1), (9, .int v15.2.2.2.2), (10, .int n40)] → W p_ l e_ (headSpec (ws_ yX4_rare cX4_rare 11 (some .int)) ({ frames := 1, cells := 0, slots := 0, locals := 22 })).room s_ m_ ([.ref X.1.1, .int a0, .int a1] : List Value).toArray below_ meth_ c_ H locs 0 0 (MQ below_ (mQi X out_.1 out_.2 (mA lo hi)) ([.ref X.1.1, .int a0, .int a1] : List Value).toArray s_ 0 0 (mA lo hi)) (F0 m_ 147 ls []) := by
                  intro w41_ hw_
                  have hd := wt_rs_l hw_ hq43
                  clear hj42 hq43
                  intro H locs ls hW hS hl
                  refine lv_iload (pc := 147) hx hb dX4_rare_147 (lv_at hl 7 rfl) ?_
                  refine lv_goto (pc := 149) (tgt := 154) hx hb dX4_rare_149 (by decide) ?_
                  refine lv_istore (pc := 154) (lv' := [(7, .int n40), (0, .ref X.1.1), (1, .int a0), (2, .int a1), (3, .long n31), (5, .long n34), (8, .int v15.2.2.2.1), (9, .int v15.2.2.2.2), (10, .int n40)]) hx hb dX4_rare_154 hl (by decide) rfl (fun ls hl => ?_)
                  refine lv_iload (pc := 156) hx hb dX4_rare_156 (lv_at hl 8 rfl) ?_
                  refine lv_iload (pc := 158) hx hb dX4_rare_158 (lv_at hl 6 rfl) ?_
                  refine lv_icmp_le (pc := 160) (tgt := 168) hx hb dX4_rare_160 (by decide) (fun c50 => ?_) (fun c50 => ?_)
                  · have hd := wt_it hd c50
                    refine lv_iload (pc := 168) hx hb dX4_rare_168 (lv_at hl 6 rfl) ?_
                    refine lv_istore (pc := 170) (lv' := [(8, .int v15.2.2.2.1), (7, .int n40), (0, .ref X.1.1), (1, .int a0), (2, .int a1), (3, .long n31), (5, .long n34), (9, .int v15.2.2.2.2), (10, .int n40)]) hx hb dX4_rare_170 hl (by decide) rfl (fun ls hl => ?_)
                    obtain ⟨n51, en51, hd⟩ := wt_lt_o hd
                    refine lv_iinc (pc := 172) (k := 7) (v := n51) (lv' := [(9, .int n51), (8, .int v15.2.2.2.1), (7, .int n40), (0, .ref X.1.1), (1, .int a0), (2, .int a1), (3, .long n31), (5, .long n34), (10, .int n40)]) hx hb dX4_rare_172 hl rfl en51.symm (by decide) rfl (fun ls hl => ?_)
                    refine lv_goto (pc := 175) (tgt := 53) hx hb dX4_rare_175 (by decide) ?_
                    exact ih21 _ (wt_again hd hk20) _ _ _ hW hS (lv_sub hl [3, 4, 5, 6, 7, 2, 1, 0] rfl)
                  · have hd := wt_if hd c50
                    refine lv_iload (pc := 163) hx hb dX4_rare_163 (lv_at hl 8 rfl) ?_
                    refine lv_goto (pc := 165) (tgt := 170) hx hb dX4_rare_165 (by decide) ?_
                    refine lv_istore (pc := 170) (lv' := [(8, .int n40), (7, .int n40), (0, .ref X.1.1), (1, .int a0), (2, .int a1), (3, .long n31), (5, .long n34), (9, .int v15.2.2.2.2), (10, .int n40)]) hx hb dX4_rare_170 hl (by decide) rfl (fun ls hl => ?_)
                    obtain ⟨n52, en52, hd⟩ := wt_lt_o hd
                    refine lv_iinc (pc := 172) (k := 7) (v := n52) (lv' := [(9, .int n52), (8, .int n40), (7, .int n40), (0, .ref X.1.1), (1, .int a0), (2, .int a1), (3, .long n31), (5, .long n34), (10, .int n40)]) hx hb dX4_rare_172 hl rfl en52.symm (by decide) rfl (fun ls hl => ?_)
                    refine lv_goto (pc := 175) (tgt := 53) hx hb dX4_rare_175 (by decide) ?_
                    exact ih21 _ (wt_again hd hk20) _ _ _ hW hS (lv_sub hl [3, 4, 5, 6, 7, 2, 1, 0] rfl)
                have hd := hj42
                refine lv_icmp_eq (pc := 137) (tgt := 147) hx hb dX4_rare_137 (by decide) (fun c45 => ?_) (fun c45 => ?_)
                · have hd := wt_it hd c45
                  exact hX44 () (Option.some.inj hd) _ _ _ hW hS (lv_sub hl [3, 4, 5, 2, 1, 7, 8, 0] rfl)
                · have hd := wt_if hd c45
                  refine lv_iload (pc := 140) hx hb dX4_rare_140 (lv_at hl 0 rfl) ?_
                  refine lv_iload (pc := 142) hx hb dX4_rare_142 (lv_at hl 6 rfl) ?_
                  refine lv_icmp_ge (pc := 144) (tgt := 152) hx hb dX4_rare_144 (by decide) (fun c46 => ?_) (fun c46 => ?_)
                  · have hd := wt_it hd c46
                    refine lv_iload (pc := 152) hx hb dX4_rare_152 (lv_at hl 6 rfl) ?_
                    refine lv_istore (pc := 154) (lv' := [(7, .int v15.2.2.1), (10, .int n40), (5, .long n34), (3, .long n31), (0, .ref X.1.1), (1, .int a0), (2, .int a1), (8, .int v15.2.2.2.1), (9, .int v15.2.2.2.2)]) hx hb dX4_rare_154 hl (by decide) rfl (fun ls hl => ?_)
                    refine lv_iload (pc := 156) hx hb dX4_rare_156 (lv_at hl 1 rfl) ?_
                    refine lv_iload (pc := 158) hx hb dX4_rare_158 (lv_at hl 7 rfl) ?_
                    refine lv_icmp_le (pc := 160) (tgt := 168) hx hb dX4_rare_160 (by decide) (fun c47 => ?_) (fun c47 => ?_)
                    · have hd := wt_it hd c47
                      refine lv_iload (pc := 168) hx hb dX4_rare_168 (lv_at hl 7 rfl) ?_
                      refine lv_istore (pc := 170) (lv' := [(8, .int v15.2.2.2.1), (7, .int v15.2.2.1), (10, .int n40), (5, .long n34), (3, .long n31), (0, .ref X.1.1), (1, .int a0), (2, .int a1), (9, .int v15.2.2.2.2)]) hx hb dX4_rare_170 hl (by decide) rfl (fun ls hl => ?_)
                      obtain ⟨n48, en48, hd⟩ := wt_lt_o hd
                      refine lv_iinc (pc := 172) (k := 8) (v := n48) (lv' := [(9, .int n48), (8, .int v15.2.2.2.1), (7, .int v15.2.2.1), (10, .int n40), (5, .long n34), (3, .long n31), (0, .ref X.1.1), (1, .int a0), (2, .int a1)]) hx hb dX4_rare_172 hl rfl en48.symm (by decide) rfl (fun ls hl => ?_)
                      refine lv_goto (pc := 175) (tgt := 53) hx hb dX4_rare_175 (by decide) ?_
                      have hd := wt_rs_r (Option.some.inj hd) hq43
                      exact ih21 _ (wt_again hd hk20) _ _ _ hW hS (lv_sub hl [6, 7, 8, 5, 4, 2, 1, 0] rfl)
                    · have hd := wt_if hd c47
                      refine lv_iload (pc := 163) hx hb dX4_rare_163 (lv_at hl 1 rfl) ?_
                      refine lv_goto (pc := 165) (tgt := 170) hx hb dX4_rare_165 (by decide) ?_
                      refine lv_istore (pc := 170) (lv' := [(8, .int n40), (7, .int v15.2.2.1), (10, .int n40), (5, .long n34), (3, .long n31), (0, .ref X.1.1), (1, .int a0), (2, .int a1), (9, .int v15.2.2.2.2)]) hx hb dX4_rare_170 hl (by decide) rfl (fun ls hl => ?_)
                      obtain ⟨n49, en49, hd⟩ := wt_lt_o hd
                      refine lv_iinc (pc := 172) (k := 8) (v := n49) (lv' := [(9, .int n49), (8, .int n40), (7, .int v15.2.2.1), (10, .int n40), (5, .long n34), (3, .long n31), (0, .ref X.1.1), (1, .int a0), (2, .int a1)]) hx hb dX4_rare_172 hl rfl en49.symm (by decide) rfl (fun ls hl => ?_)
                      refine lv_goto (pc := 175) (tgt := 53) hx hb dX4_rare_175 (by decide) ?_
                      have hd := wt_rs_r (Option.some.inj hd) hq43
                      exact ih21 _ (wt_again hd hk20) _ _ _ hW hS (lv_sub hl [6, 7, 8, 5, 4, 2, 1, 0] rfl)
                  · have hd := wt_if hd c46
                    exact hX44 () (Option.some.inj hd) _ _ _ hW hS (lv_sub hl [3, 4, 5, 2, 1, 7, 8, 0] rfl)
              · have hd := wt_if hd c28
                refine lv_goto (pc := 75) (tgt := 172) hx hb dX4_rare_75 (by decide) ?_
                obtain ⟨n53, en53, hd⟩ := wt_lt_o hd
                refine lv_iinc (pc := 172) (k := 7) (v := n53) (lv' := [(9, .int n53), (0, .ref X.1.1), (1, .int a0), (2, .int a1), (3, .long v15.1), (5, .long v15.2.1), (7, .int v15.2.2.1), (8, .int v15.2.2.2.1)]) hx hb dX4_rare_172 hl rfl en53.symm (by decide) rfl (fun ls hl => ?_)
                refine lv_goto (pc := 175) (tgt := 53) hx hb dX4_rare_175 (by decide) ?_
                exact ih21 _ (wt_again hd hk20) _ _ _ hW hS (lv_sub hl [1, 2, 3, 4, 5, 6, 7, 0] rfl)
        obtain ⟨k23, hL17⟩ := wt_whC_o hL17
        exact hI24 k23 _ hL17 _ _ _ hW hS (lv_sub hl [5, 6, 7, 4, 3, 2, 1, 0] rfl)
      · have hd := wt_if hd c14
        refine lv_iconst (pc := 37) (v := 0) hx hb dX4_rare_37 (by decide) ?_
        have hd := wt_rs_r (Option.some.inj hd) hq6
        exact mr_iret hx hb hr rfl hlocks (wt_p1 hd) (wt_p2 hd) hW hK hS dX4_rare_38
    · have hd := wt_it hd c11
      exact hX7 () (Option.some.inj hd) _ _ _ hW hS hl
