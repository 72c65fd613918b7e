/-! the model's constructor (by gen/comp.py) -/
set_option maxRecDepth 100000
theorem hf_17_3 : hfB [17] 3 "WoolThreadsModel" "place" "I" false = true := by decide +kernel
theorem hf_17_7 : hfB [17] 7 "WoolThreadsModel" "fed" "[I" true = true := by decide +kernel
theorem hf_17_11 : hfB [17] 11 "WoolThreadsModel" "take" "I" false = true := by decide +kernel
theorem hf_17_12 : hfB [17] 12 "WoolThreadsModel" "shed" "[[I" true = true := by decide +kernel
theorem hf_17_13 : hfB [17] 13 "WoolThreadsModel" "hold" "[I" true = true := by decide +kernel
theorem hf_17_14 : hfB [17] 14 "WoolThreadsModel" "common" "[I" true = true := by decide +kernel
theorem hf_17_15 : hfB [17] 15 "WoolThreadsModel" "near" "[I" true = true := by decide +kernel
theorem hf_17_20 : hfB [17] 20 "WoolThreadsModel" "newShed" "[[I" true = true := by decide +kernel
theorem hf_17_21 : hfB [17] 21 "WoolThreadsModel" "newHold" "[I" true = true := by decide +kernel
theorem hf_17_22 : hfB [17] 22 "WoolThreadsModel" "newCommon" "[I" true = true := by decide +kernel
theorem hf_17_23 : hfB [17] 23 "WoolThreadsModel" "newNear" "[I" true = true := by decide +kernel
theorem hf_17_25 : hfB [17] 25 "WoolThreadsModel" "many" "[I" true = true := by decide +kernel
theorem hf_17_26 : hfB [17] 26 "WoolThreadsModel" "event" "[[I" true = true := by decide +kernel
theorem hf_17_27 : hfB [17] 27 "WoolThreadsModel" "newEvent" "[[I" true = true := by decide +kernel
theorem hf_17_32 : hfB [17] 32 "WoolThreadsModel" "find" "[[I" true = true := by decide +kernel
theorem hf_17_33 : hfB [17] 33 "WoolThreadsModel" "seat" "[I" true = true := by decide +kernel
theorem hf_17_34 : hfB [17] 34 "WoolThreadsModel" "shop" "[[I" true = true := by decide +kernel
theorem hf_17_35 : hfB [17] 35 "WoolThreadsModel" "keptFind" "[[I" true = true := by decide +kernel
theorem hf_17_36 : hfB [17] 36 "WoolThreadsModel" "keptSeat" "[[I" true = true := by decide +kernel
theorem hf_17_37 : hfB [17] 37 "WoolThreadsModel" "keptShop" "[[I" true = true := by decide +kernel
theorem hf_17_38 : hfB [17] 38 "WoolThreadsModel" "keptMany" "[[I" true = true := by decide +kernel
theorem hf_17_39 : hfB [17] 39 "WoolThreadsModel" "lies" "[[I" true = true := by decide +kernel
theorem hf_17_40 : hfB [17] 40 "WoolThreadsModel" "wears" "[I" true = true := by decide +kernel
theorem hf_17_41 : hfB [17] 41 "WoolThreadsModel" "leftOut" "I" false = true := by decide +kernel
theorem hf_17_42 : hfB [17] 42 "WoolThreadsModel" "extraFrom" "I" false = true := by decide +kernel
theorem hf_17_45 : hfB [17] 45 "WoolThreadsModel" "first" "I" false = true := by decide +kernel
theorem hf_17_48 : hfB [17] 48 "WoolThreadsModel" "big" "[[I" true = true := by decide +kernel
noncomputable def bX4_init_1 (o_ : Nat) (v77 : Int32 × HP) : Option ((Int32 × HP) ⊕ (HP)) :=
  if (10 : Int32) ≤ v77.1 then (some (.inr v77.2)) else (wt_bd (hgA v77.2 o_ [17] 13) fun ad88 => wt_bd (haI v77.2 ad88 0) fun z90 => wt_ck (vp_in v77.1 z90.1) <| wt_lt (hst v77.2 ad88 (.inl (0, z90.1, .inl (upd z90.2 v77.1.toNatClampNeg (16 : Int32))))) fun τ93 => wt_lt (v77.1 + (1 : Int32)) fun n94 => some (.inl (n94, τ93)))
noncomputable def eX4_init (τ : HP) (o_ : Nat) : Option (HP) :=
  wt_bd (hp τ o_ [17] 3 (.int (-1 : Int32))) fun τ1 => wt_lt (hnew τ1 (.inl (0, 400, .inl (fun _ => 0)))) fun τ3 => wt_bd (hp τ3 o_ [17] 7 (.ref (τ1.2))) fun τ4 => wt_bd (hp τ4 o_ [17] 11 (.int (8 : Int32))) fun τ6 => wt_lt (hmnew τ6 8 10) fun τ8 => wt_bd (hp τ8 o_ [17] 12 (.ref (τ6.2))) fun τ9 => wt_lt (hnew τ9 (.inl (0, 10, .inl (fun _ => 0)))) fun τ11 => wt_bd (hp τ11 o_ [17] 13 (.ref (τ9.2))) fun τ12 => wt_lt (hnew τ12 (.inl (0, 10, .inl (fun _ => 0)))) fun τ14 => wt_bd (hp τ14 o_ [17] 14 (.ref (τ12.2))) fun τ15 => wt_lt (hnew τ15 (.inl (0, 10, .inl (fun _ => 0)))) fun τ17 => wt_bd (hp τ17 o_ [17] 15 (.ref (τ15.2))) fun τ18 => wt_lt (hmnew τ18 8 10) fun τ20 => wt_bd (hp τ20 o_ [17] 20 (.ref (τ18.2))) fun τ21 => wt_lt (hnew τ21 (.inl (0, 10, .inl (fun _ => 0)))) fun τ23 => wt_bd (hp τ23 o_ [17] 21 (.ref (τ21.2))) fun τ24 => wt_lt (hnew τ24 (.inl (0, 10, .inl (fun _ => 0)))) fun τ26 => wt_bd (hp τ26 o_ [17] 22 (.ref (τ24.2))) fun τ27 => wt_lt (hnew τ27 (.inl (0, 10, .inl (fun _ => 0)))) fun τ29 => wt_bd (hp τ29 o_ [17] 23 (.ref (τ27.2))) fun τ30 => wt_lt (hnew τ30 (.inl (0, 4, .inl (fun _ => 0)))) fun τ32 => wt_bd (hp τ32 o_ [17] 25 (.ref (τ30.2))) fun τ33 => wt_lt (hmnew τ33 80 4) fun τ35 => wt_bd (hp τ35 o_ [17] 26 (.ref (τ33.2))) fun τ36 => wt_lt (hmnew τ36 21 4) fun τ38 => wt_bd (hp τ38 o_ [17] 27 (.ref (τ36.2))) fun τ39 => wt_lt (hmnew τ39 8 4) fun τ41 => wt_bd (hp τ41 o_ [17] 32 (.ref (τ39.2))) fun τ42 => wt_lt (hnew τ42 (.inl (0, 40, .inl (fun _ => 0)))) fun τ44 => wt_bd (hp τ44 o_ [17] 33 (.ref (τ42.2))) fun τ45 => wt_lt (hmnew τ45 12 3) fun τ47 => wt_bd (hp τ47 o_ [17] 34 (.ref (τ45.2))) fun τ48 => wt_lt (hmnew τ48 24 4) fun τ50 => wt_bd (hp τ50 o_ [17] 35 (.ref (τ48.2))) fun τ51 => wt_lt (hmnew τ51 3 40) fun τ53 => wt_bd (hp τ53 o_ [17] 36 (.ref (τ51.2))) fun τ54 => wt_lt (hmnew τ54 36 3) fun τ56 => wt_bd (hp τ56 o_ [17] 37 (.ref (τ54.2))) fun τ57 => wt_lt (hmnew τ57 3 3) fun τ59 => wt_bd (hp τ59 o_ [17] 38 (.ref (τ57.2))) fun τ60 => wt_lt (hmnew τ60 10 10) fun τ62 => wt_bd (hp τ62 o_ [17] 39 (.ref (τ60.2))) fun τ63 => wt_lt (hnew τ63 (.inl (0, 10, .inl (fun _ => 0)))) fun τ65 => wt_bd (hp τ65 o_ [17] 40 (.ref (τ63.2))) fun τ66 => wt_bd (hp τ66 o_ [17] 41 (.int (-1 : Int32))) fun τ68 => wt_bd (hp τ68 o_ [17] 42 (.int (-1 : Int32))) fun τ70 => wt_bd (hp τ70 o_ [17] 45 (.int (-1 : Int32))) fun τ72 => wt_lt (hmnew τ72 3 330) fun τ74 => wt_bd (hp τ74 o_ [17] 48 (.ref (τ72.2))) fun τ75 => wt_bd (wt_whC (bX4_init_1 o_) ((0 : Int32), τ75)) fun w78 => some w78
set_option maxHeartbeats 4000000 in
theorem wX4_init (l : Launch) {G : HG} {A : Nat → Prop} {τ : HP} {o_ : Nat} {out_ : HP} (hd : eX4_init τ o_ = some out_) : Met l yX4_init (ws_ yX4_init cX4_init 2 none) ({ frames := 1, cells := 238, slots := 2785, locals := 32 }) (hPc G A τ [.ref o_]) (hQv G out_ A) 238 2785 A := by
  refine Met.ofW (cc := cX4_init) (maxL := 2) (ret := none) (by decide) rfl ?_
  intro p_ e_ s_ m_ args_ below_ meth_ c_ s₁_ B hml hv
  obtain ⟨rfl, hW, hC⟩ := hv
  have hx := B.exec
  have hb := B.bytes
  have hr := B.returns
  have hts := atoms_spec (ws := (ws_ yX4_init cX4_init 2 none)) B.pre
  have hts : ∀ w ∈ lw_all, w.before _ s_ = true := fun w h => hts w (List.mem_cons_of_mem _ h)
  have hown : s_.vm.findClass RX4 = some m_.cls := findClass_of_methodNamed B.named
  have hlocks := B.notSynchronized
  have hK := hC.1
  have hT := hC.2.1
  have hL := hC.2.2.1
  have hZ := hC.2.2.2.2.1
  have hA := hC.2.2.2.2.2
  have hin2 : meth_.name = "<init>" := (name_of_methodNamed B.named B.method).1
  have hS : va_S A s_.heap s_.heap [] := va_S.rf
  have hl := lv_entry ([.ref o_]) (n := 2) (Nat.le_of_ble_eq_true rfl)
  rw [lg_entry_eq]
  generalize (lg_sl ([.ref o_]) ++ List.replicate (2 - (lg_sl ([.ref o_])).length) Slot.unset).toArray = ls at hl ⊢
  have hl : lv_has ls 2 [(0, .ref o_)] := hl
  unfold eX4_init at hd
  refine lv_aload_n (pc := 0) hx hb dX4_init_0 rfl (lv_at hl 0 rfl) ?_
  refine W.objInit (g := F0 m_ 1 ls _) hx hb hown (hts _ q1526) (hts _ q110) (hts _ q111) rfl (by rw [hml]; exact hl.1) rfl dX4_init_1 (Nat.le_of_ble_eq_true rfl) (Nat.le_of_ble_eq_true rfl) ?_
  refine W.eq (g2 := F0 m_ 4 ls []) rfl ?_
  refine lv_aload_n (pc := 4) hx hb dX4_init_4 rfl (lv_at hl 0 rfl) ?_
  refine lv_iconst (pc := 5) (v := -1) hx hb dX4_init_5 (by decide) ?_
  obtain ⟨τ1, h2, hd⟩ := wt_bd_o hd
  refine hr_put (pc := 6) (ty := .int) hx hb hts hown hK hW hS h2 hf_17_3 (by decide +kernel) rfl rfl (fun _ h => h) q1532 dX4_init_6 (fun H locs hW hS => ?_)
  refine lv_aload_n (pc := 9) hx hb dX4_init_9 rfl (lv_at hl 0 rfl) ?_
  refine lv_sipush (pc := 10) (v := 400) hx hb dX4_init_10 (by decide) ?_
  obtain ⟨τ3, eτ3, hd⟩ := wt_lt_o hd
  refine hr_newI (pc := 13) (N := 400) hx hb hts hK hW hS hA (by decide) rfl (by decide) eτ3 (Nat.le_of_ble_eq_true rfl) (Nat.le_of_ble_eq_true rfl) dX4_init_13 (fun H hW hS => ?_)
  obtain ⟨τ4, h5, hd⟩ := wt_bd_o hd
  refine hr_putF (pc := 15) (ty := (.array .int)) hx hb hts hown hK hin2 hW hS h5 hf_17_7 (by decide +kernel) rfl rfl q1536 dX4_init_15 (fun H locs hW hS => ?_)
  refine lv_aload_n (pc := 18) hx hb dX4_init_18 rfl (lv_at hl 0 rfl) ?_
  refine lv_bipush (pc := 19) (v := 8) hx hb dX4_init_19 (by decide) ?_
  obtain ⟨τ6, h7, hd⟩ := wt_bd_o hd
  refine hr_put (pc := 21) (ty := .int) hx hb hts hown hK hW hS h7 hf_17_11 (by decide +kernel) rfl rfl (fun _ h => h) q1540 dX4_init_21 (fun H locs hW hS => ?_)
  refine lv_aload_n (pc := 24) hx hb dX4_init_24 rfl (lv_at hl 0 rfl) ?_
  refine lv_bipush (pc := 25) (v := 8) hx hb dX4_init_25 (by decide) ?_
  refine lv_bipush (pc := 27) (v := 10) hx hb dX4_init_27 (by decide) ?_
  obtain ⟨τ8, eτ8, hd⟩ := wt_lt_o hd
  refine hr_mnew (pc := 29) (N := 8) (K := 10) hx hb hts hown hK hT hW hS hA q1527 (by decide) (by decide) rfl rfl (by decide) (by decide) eτ8 (Nat.le_of_ble_eq_true rfl) (Nat.le_of_ble_eq_true rfl) dX4_init_29 (fun H hW hS => ?_)
  obtain ⟨τ9, h10, hd⟩ := wt_bd_o hd
  refine hr_putF (pc := 33) (ty := (.array (.array .int))) hx hb hts hown hK hin2 hW hS h10 hf_17_12 (by decide +kernel) rfl rfl q1541 dX4_init_33 (fun H locs hW hS => ?_)
  refine lv_aload_n (pc := 36) hx hb dX4_init_36 rfl (lv_at hl 0 rfl) ?_
  refine lv_bipush (pc := 37) (v := 10) hx hb dX4_init_37 (by decide) ?_
  obtain ⟨τ11, eτ11, hd⟩ := wt_lt_o hd
  refine hr_newI (pc := 39) (N := 10) hx hb hts hK hW hS hA (by decide) rfl (by decide) eτ11 (Nat.le_of_ble_eq_true rfl) (Nat.le_of_ble_eq_true rfl) dX4_init_39 (fun H hW hS => ?_)
  obtain ⟨τ12, h13, hd⟩ := wt_bd_o hd
  refine hr_putF (pc := 41) (ty := (.array .int)) hx hb hts hown hK hin2 hW hS h13 hf_17_13 (by decide +kernel) rfl rfl q1542 dX4_init_41 (fun H locs hW hS => ?_)
  refine lv_aload_n (pc := 44) hx hb dX4_init_44 rfl (lv_at hl 0 rfl) ?_
  refine lv_bipush (pc := 45) (v := 10) hx hb dX4_init_45 (by decide) ?_
  obtain ⟨τ14, eτ14, hd⟩ := wt_lt_o hd
  refine hr_newI (pc := 47) (N := 10) hx hb hts hK hW hS hA (by decide) rfl (by decide) eτ14 (Nat.le_of_ble_eq_true rfl) (Nat.le_of_ble_eq_true rfl) dX4_init_47 (fun H hW hS => ?_)
  obtain ⟨τ15, h16, hd⟩ := wt_bd_o hd
  refine hr_putF (pc := 49) (ty := (.array .int)) hx hb hts hown hK hin2 hW hS h16 hf_17_14 (by decide +kernel) rfl rfl q1543 dX4_init_49 (fun H locs hW hS => ?_)
  refine lv_aload_n (pc := 52) hx hb dX4_init_52 rfl (lv_at hl 0 rfl) ?_
  refine lv_bipush (pc := 53) (v := 10) hx hb dX4_init_53 (by decide) ?_
  obtain ⟨τ17, eτ17, hd⟩ := wt_lt_o hd
  refine hr_newI (pc := 55) (N := 10) hx hb hts hK hW hS hA (by decide) rfl (by decide) eτ17 (Nat.le_of_ble_eq_true rfl) (Nat.le_of_ble_eq_true rfl) dX4_init_55 (fun H hW hS => ?_)
  obtain ⟨τ18, h19, hd⟩ := wt_bd_o hd
  refine hr_putF (pc := 57) (ty := (.array .int)) hx hb hts hown hK hin2 hW hS h19 hf_17_15 (by decide +kernel) rfl rfl q1544 dX4_init_57 (fun H locs hW hS => ?_)
  refine lv_aload_n (pc := 60) hx hb dX4_init_60 rfl (lv_at hl 0 rfl) ?_
  refine lv_bipush (pc := 61) (v := 8) hx hb dX4_init_61 (by decide) ?_
  refine lv_bipush (pc := 63) (v := 10) hx hb dX4_init_63 (by decide) ?_
  obtain ⟨τ20, eτ20, hd⟩ := wt_lt_o hd
  refine hr_mnew (pc := 65) (N := 8) (K := 10) hx hb hts hown hK hT hW hS hA q1527 (by decide) (by decide) rfl rfl (by decide) (by decide) eτ20 (Nat.le_of_ble_eq_true rfl) (Nat.le_of_ble_eq_true rfl) dX4_init_65 (fun H hW hS => ?_)
  obtain ⟨τ21, h22, hd⟩ := wt_bd_o hd
  refine hr_putF (pc := 69) (ty := (.array (.array .int))) hx hb hts hown hK hin2 hW hS h22 hf_17_20 (by decide +kernel) rfl rfl q1549 dX4_init_69 (fun H locs hW hS => ?_)
  refine lv_aload_n (pc := 72) hx hb dX4_init_72 rfl (lv_at hl 0 rfl) ?_
  refine lv_bipush (pc := 73) (v := 10) hx hb dX4_init_73 (by decide) ?_
  obtain ⟨τ23, eτ23, hd⟩ := wt_lt_o hd
  refine hr_newI (pc := 75) (N := 10) hx hb hts hK hW hS hA (by decide) rfl (by decide) eτ23 (Nat.le_of_ble_eq_true rfl) (Nat.le_of_ble_eq_true rfl) dX4_init_75 (fun H hW hS => ?_)
  obtain ⟨τ24, h25, hd⟩ := wt_bd_o hd
  refine hr_putF (pc := 77) (ty := (.array .int)) hx hb hts hown hK hin2 hW hS h25 hf_17_21 (by decide +kernel) rfl rfl q1550 dX4_init_77 (fun H locs hW hS => ?_)
  refine lv_aload_n (pc := 80) hx hb dX4_init_80 rfl (lv_at hl 0 rfl) ?_
  refine lv_bipush (pc := 81) (v := 10) hx hb dX4_init_81 (by decide) ?_
  obtain ⟨τ26, eτ26, hd⟩ := wt_lt_o hd
  refine hr_newI (pc := 83) (N := 10) hx hb hts hK hW hS hA (by decide) rfl (by decide) eτ26 (Nat.le_of_ble_eq_true rfl) (Nat.le_of_ble_eq_true rfl) dX4_init_83 (fun H hW hS => ?_)
  obtain ⟨τ27, h28, hd⟩ := wt_bd_o hd
  refine hr_putF (pc := 85) (ty := (.array .int)) hx hb hts hown hK hin2 hW hS h28 hf_17_22 (by decide +kernel) rfl rfl q1551 dX4_init_85 (fun H locs hW hS => ?_)
  refine lv_aload_n (pc := 88) hx hb dX4_init_88 rfl (lv_at hl 0 rfl) ?_
  refine lv_bipush (pc := 89) (v := 10) hx hb dX4_init_89 (by decide) ?_
  obtain ⟨τ29, eτ29, hd⟩ := wt_lt_o hd
  refine hr_newI (pc := 91) (N := 10) hx hb hts hK hW hS hA (by decide) rfl (by decide) eτ29 (Nat.le_of_ble_eq_true rfl) (Nat.le_of_ble_eq_true rfl) dX4_init_91 (fun H hW hS => ?_)
  obtain ⟨τ30, h31, hd⟩ := wt_bd_o hd
  refine hr_putF (pc := 93) (ty := (.array .int)) hx hb hts hown hK hin2 hW hS h31 hf_17_23 (by decide +kernel) rfl rfl q1552 dX4_init_93 (fun H locs hW hS => ?_)
  refine lv_aload_n (pc := 96) hx hb dX4_init_96 rfl (lv_at hl 0 rfl) ?_
  refine lv_iconst (pc := 97) (v := 4) hx hb dX4_init_97 (by decide) ?_
  obtain ⟨τ32, eτ32, hd⟩ := wt_lt_o hd
  refine hr_newI (pc := 98) (N := 4) hx hb hts hK hW hS hA (by decide) rfl (by decide) eτ32 (Nat.le_of_ble_eq_true rfl) (Nat.le_of_ble_eq_true rfl) dX4_init_98 (fun H hW hS => ?_)
  obtain ⟨τ33, h34, hd⟩ := wt_bd_o hd
  refine hr_putF (pc := 100) (ty := (.array .int)) hx hb hts hown hK hin2 hW hS h34 hf_17_25 (by decide +kernel) rfl rfl q1554 dX4_init_100 (fun H locs hW hS => ?_)
  refine lv_aload_n (pc := 103) hx hb dX4_init_103 rfl (lv_at hl 0 rfl) ?_
  refine lv_bipush (pc := 104) (v := 80) hx hb dX4_init_104 (by decide) ?_
  refine lv_iconst (pc := 106) (v := 4) hx hb dX4_init_106 (by decide) ?_
  obtain ⟨τ35, eτ35, hd⟩ := wt_lt_o hd
  refine hr_mnew (pc := 107) (N := 80) (K := 4) hx hb hts hown hK hT hW hS hA q1527 (by decide) (by decide) rfl rfl (by decide) (by decide) eτ35 (Nat.le_of_ble_eq_true rfl) (Nat.le_of_ble_eq_true rfl) dX4_init_107 (fun H hW hS => ?_)
  obtain ⟨τ36, h37, hd⟩ := wt_bd_o hd
  refine hr_putF (pc := 111) (ty := (.array (.array .int))) hx hb hts hown hK hin2 hW hS h37 hf_17_26 (by decide +kernel) rfl rfl q1555 dX4_init_111 (fun H locs hW hS => ?_)
  refine lv_aload_n (pc := 114) hx hb dX4_init_114 rfl (lv_at hl 0 rfl) ?_
  refine lv_bipush (pc := 115) (v := 21) hx hb dX4_init_115 (by decide) ?_
  refine lv_iconst (pc := 117) (v := 4) hx hb dX4_init_117 (by decide) ?_
  obtain ⟨τ38, eτ38, hd⟩ := wt_lt_o hd
  refine hr_mnew (pc := 118) (N := 21) (K := 4) hx hb hts hown hK hT hW hS hA q1527 (by decide) (by decide) rfl rfl (by decide) (by decide) eτ38 (Nat.le_of_ble_eq_true rfl) (Nat.le_of_ble_eq_true rfl) dX4_init_118 (fun H hW hS => ?_)
  obtain ⟨τ39, h40, hd⟩ := wt_bd_o hd
  refine hr_putF (pc := 122) (ty := (.array (.array .int))) hx hb hts hown hK hin2 hW hS h40 hf_17_27 (by decide +kernel) rfl rfl q1556 dX4_init_122 (fun H locs hW hS => ?_)
  refine lv_aload_n (pc := 125) hx hb dX4_init_125 rfl (lv_at hl 0 rfl) ?_
  refine lv_bipush (pc := 126) (v := 8) hx hb dX4_init_126 (by decide) ?_
  refine lv_iconst (pc := 128) (v := 4) hx hb dX4_init_128 (by decide) ?_
  obtain ⟨τ41, eτ41, hd⟩ := wt_lt_o hd
  refine hr_mnew (pc := 129) (N := 8) (K := 4) hx hb hts hown hK hT hW hS hA q1527 (by decide) (by decide) rfl rfl (by decide) (by decide) eτ41 (Nat.le_of_ble_eq_true rfl) (Nat.le_of_ble_eq_true rfl) dX4_init_129 (fun H hW hS => ?_)
  obtain ⟨τ42, h43, hd⟩ := wt_bd_o hd
  refine hr_putF (pc := 133) (ty := (.array (.array .int))) hx hb hts hown hK hin2 hW hS h43 hf_17_32 (by decide +kernel) rfl rfl q1561 dX4_init_133 (fun H locs hW hS => ?_)
  refine lv_aload_n (pc := 136) hx hb dX4_init_136 rfl (lv_at hl 0 rfl) ?_
  refine lv_bipush (pc := 137) (v := 40) hx hb dX4_init_137 (by decide) ?_
  obtain ⟨τ44, eτ44, hd⟩ := wt_lt_o hd
  refine hr_newI (pc := 139) (N := 40) hx hb hts hK hW hS hA (by decide) rfl (by decide) eτ44 (Nat.le_of_ble_eq_true rfl) (Nat.le_of_ble_eq_true rfl) dX4_init_139 (fun H hW hS => ?_)
  obtain ⟨τ45, h46, hd⟩ := wt_bd_o hd
  refine hr_putF (pc := 141) (ty := (.array .int)) hx hb hts hown hK hin2 hW hS h46 hf_17_33 (by decide +kernel) rfl rfl q1562 dX4_init_141 (fun H locs hW hS => ?_)
  refine lv_aload_n (pc := 144) hx hb dX4_init_144 rfl (lv_at hl 0 rfl) ?_
  refine lv_bipush (pc := 145) (v := 12) hx hb dX4_init_145 (by decide) ?_
  refine lv_iconst (pc := 147) (v := 3) hx hb dX4_init_147 (by decide) ?_
  obtain ⟨τ47, eτ47, hd⟩ := wt_lt_o hd
  refine hr_mnew (pc := 148) (N := 12) (K := 3) hx hb hts hown hK hT hW hS hA q1527 (by decide) (by decide) rfl rfl (by decide) (by decide) eτ47 (Nat.le_of_ble_eq_true rfl) (Nat.le_of_ble_eq_true rfl) dX4_init_148 (fun H hW hS => ?_)
  obtain ⟨τ48, h49, hd⟩ := wt_bd_o hd
  refine hr_putF (pc := 152) (ty := (.array (.array .int))) hx hb hts hown hK hin2 hW hS h49 hf_17_34 (by decide +kernel) rfl rfl q1563 dX4_init_152 (fun H locs hW hS => ?_)
  refine lv_aload_n (pc := 155) hx hb dX4_init_155 rfl (lv_at hl 0 rfl) ?_
  refine lv_bipush (pc := 156) (v := 24) hx hb dX4_init_156 (by decide) ?_
  refine lv_iconst (pc := 158) (v := 4) hx hb dX4_init_158 (by decide) ?_
  obtain ⟨τ50, eτ50, hd⟩ := wt_lt_o hd
  refine hr_mnew (pc := 159) (N := 24) (K := 4) hx hb hts hown hK hT hW hS hA q1527 (by decide) (by decide) rfl rfl (by decide) (by decide) eτ50 (Nat.le_of_ble_eq_true rfl) (Nat.le_of_ble_eq_true rfl) dX4_init_159 (fun H hW hS => ?_)
  obtain ⟨τ51, h52, hd⟩ := wt_bd_o hd
  refine hr_putF (pc := 163) (ty := (.array (.array .int))) hx hb hts hown hK hin2 hW hS h52 hf_17_35 (by decide +kernel) rfl rfl q1564 dX4_init_163 (fun H locs hW hS => ?_)
  refine lv_aload_n (pc := 166) hx hb dX4_init_166 rfl (lv_at hl 0 rfl) ?_
  refine lv_iconst (pc := 167) (v := 3) hx hb dX4_init_167 (by decide) ?_
  refine lv_bipush (pc := 168) (v := 40) hx hb dX4_init_168 (by decide) ?_
  obtain ⟨τ53, eτ53, hd⟩ := wt_lt_o hd
  refine hr_mnew (pc := 170) (N := 3) (K := 40) hx hb hts hown hK hT hW hS hA q1527 (by decide) (by decide) rfl rfl (by decide) (by decide) eτ53 (Nat.le_of_ble_eq_true rfl) (Nat.le_of_ble_eq_true rfl) dX4_init_170 (fun H hW hS => ?_)
  obtain ⟨τ54, h55, hd⟩ := wt_bd_o hd
  refine hr_putF (pc := 174) (ty := (.array (.array .int))) hx hb hts hown hK hin2 hW hS h55 hf_17_36 (by decide +kernel) rfl rfl q1565 dX4_init_174 (fun H locs hW hS => ?_)
  refine lv_aload_n (pc := 177) hx hb dX4_init_177 rfl (lv_at hl 0 rfl) ?_
  refine lv_bipush (pc := 178) (v := 36) hx hb dX4_init_178 (by decide) ?_
  refine lv_iconst (pc := 180) (v := 3) hx hb dX4_init_180 (by decide) ?_
  obtain ⟨τ56, eτ56, hd⟩ := wt_lt_o hd
  refine hr_mnew (pc := 181) (N := 36) (K := 3) hx hb hts hown hK hT hW hS hA q1527 (by decide) (by decide) rfl rfl (by decide) (by decide) eτ56 (Nat.le_of_ble_eq_true rfl) (Nat.le_of_ble_eq_true rfl) dX4_init_181 (fun H hW hS => ?_)
  obtain ⟨τ57, h58, hd⟩ := wt_bd_o hd
  refine hr_putF (pc := 185) (ty := (.array (.array .int))) hx hb hts hown hK hin2 hW hS h58 hf_17_37 (by decide +kernel) rfl rfl q1566 dX4_init_185 (fun H locs hW hS => ?_)
  refine lv_aload_n (pc := 188) hx hb dX4_init_188 rfl (lv_at hl 0 rfl) ?_
  refine lv_iconst (pc := 189) (v := 3) hx hb dX4_init_189 (by decide) ?_
  refine lv_iconst (pc := 190) (v := 3) hx hb dX4_init_190 (by decide) ?_
  obtain ⟨τ59, eτ59, hd⟩ := wt_lt_o hd
  refine hr_mnew (pc := 191) (N := 3) (K := 3) hx hb hts hown hK hT hW hS hA q1527 (by decide) (by decide) rfl rfl (by decide) (by decide) eτ59 (Nat.le_of_ble_eq_true rfl) (Nat.le_of_ble_eq_true rfl) dX4_init_191 (fun H hW hS => ?_)
  obtain ⟨τ60, h61, hd⟩ := wt_bd_o hd
  refine hr_putF (pc := 195) (ty := (.array (.array .int))) hx hb hts hown hK hin2 hW hS h61 hf_17_38 (by decide +kernel) rfl rfl q1567 dX4_init_195 (fun H locs hW hS => ?_)
  refine lv_aload_n (pc := 198) hx hb dX4_init_198 rfl (lv_at hl 0 rfl) ?_
  refine lv_bipush (pc := 199) (v := 10) hx hb dX4_init_199 (by decide) ?_
  refine lv_bipush (pc := 201) (v := 10) hx hb dX4_init_201 (by decide) ?_
  obtain ⟨τ62, eτ62, hd⟩ := wt_lt_o hd
  refine hr_mnew (pc := 203) (N := 10) (K := 10) hx hb hts hown hK hT hW hS hA q1527 (by decide) (by decide) rfl rfl (by decide) (by decide) eτ62 (Nat.le_of_ble_eq_true rfl) (Nat.le_of_ble_eq_true rfl) dX4_init_203 (fun H hW hS => ?_)
  obtain ⟨τ63, h64, hd⟩ := wt_bd_o hd
  refine hr_putF (pc := 207) (ty := (.array (.array .int))) hx hb hts hown hK hin2 hW hS h64 hf_17_39 (by decide +kernel) rfl rfl q1568 dX4_init_207 (fun H locs hW hS => ?_)
  refine lv_aload_n (pc := 210) hx hb dX4_init_210 rfl (lv_at hl 0 rfl) ?_
  refine lv_bipush (pc := 211) (v := 10) hx hb dX4_init_211 (by decide) ?_
  obtain ⟨τ65, eτ65, hd⟩ := wt_lt_o hd
  refine hr_newI (pc := 213) (N := 10) hx hb hts hK hW hS hA (by decide) rfl (by decide) eτ65 (Nat.le_of_ble_eq_true rfl) (Nat.le_of_ble_eq_true rfl) dX4_init_213 (fun H hW hS => ?_)
  obtain ⟨τ66, h67, hd⟩ := wt_bd_o hd
  refine hr_putF (pc := 215) (ty := (.array .int)) hx hb hts hown hK hin2 hW hS h67 hf_17_40 (by decide +kernel) rfl rfl q1569 dX4_init_215 (fun H locs hW hS => ?_)
  refine lv_aload_n (pc := 218) hx hb dX4_init_218 rfl (lv_at hl 0 rfl) ?_
  refine lv_iconst (pc := 219) (v := -1) hx hb dX4_init_219 (by decide) ?_
  obtain ⟨τ68, h69, hd⟩ := wt_bd_o hd
  refine hr_put (pc := 220) (ty := .int) hx hb hts hown hK hW hS h69 hf_17_41 (by decide +kernel) rfl rfl (fun _ h => h) q1570 dX4_init_220 (fun H locs hW hS => ?_)
  refine lv_aload_n (pc := 223) hx hb dX4_init_223 rfl (lv_at hl 0 rfl) ?_
  refine lv_iconst (pc := 224) (v := -1) hx hb dX4_init_224 (by decide) ?_
  obtain ⟨τ70, h71, hd⟩ := wt_bd_o hd
  refine hr_put (pc := 225) (ty := .int) hx hb hts hown hK hW hS h71 hf_17_42 (by decide +kernel) rfl rfl (fun _ h => h) q1571 dX4_init_225 (fun H locs hW hS => ?_)
  refine lv_aload_n (pc := 228) hx hb dX4_init_228 rfl (lv_at hl 0 rfl) ?_
  refine lv_iconst (pc := 229) (v := -1) hx hb dX4_init_229 (by decide) ?_
  obtain ⟨τ72, h73, hd⟩ := wt_bd_o hd
  refine hr_put (pc := 230) (ty := .int) hx hb hts hown hK hW hS h73 hf_17_45 (by decide +kernel) rfl rfl (fun _ h => h) q1574 dX4_init_230 (fun H locs hW hS => ?_)
  refine lv_aload_n (pc := 233) hx hb dX4_init_233 rfl (lv_at hl 0 rfl) ?_
  refine lv_iconst (pc := 234) (v := 3) hx hb dX4_init_234 (by decide) ?_
  refine lv_sipush (pc := 235) (v := 330) hx hb dX4_init_235 (by decide) ?_
  obtain ⟨τ74, eτ74, hd⟩ := wt_lt_o hd
  refine hr_mnew (pc := 238) (N := 3) (K := 330) hx hb hts hown hK hT hW hS hA q1527 (by decide) (by decide) rfl rfl (by decide) (by decide) eτ74 (Nat.le_of_ble_eq_true rfl) (Nat.le_of_ble_eq_true rfl) dX4_init_238 (fun H hW hS => ?_)
  obtain ⟨τ75, h76, hd⟩ := wt_bd_o hd
  refine hr_putF (pc := 242) (ty := (.array (.array .int))) hx hb hts hown hK hin2 hW hS h76 hf_17_48 (by decide +kernel) rfl rfl q1577 dX4_init_242 (fun H locs hW hS => ?_)
  refine lv_iconst (pc := 245) (v := 0) hx hb dX4_init_245 (by decide) ?_
  refine lv_istore_n (pc := 246) (lv' := [(1, .int (0 : Int32)), (0, .ref o_)]) hx hb dX4_init_246 rfl hl (by decide) rfl (fun ls hl => ?_)
  obtain ⟨w78, hL79, hq80⟩ := wt_bd_o hd
  have hX81 : ∀ w78_ : HP, w78_ = w78 → ∀ (H : Heap) (locs : List Loc) (ls : Array Slot), Hw G A w78_ H → va_S A s_.heap H locs → lv_has ls 2 [] → W p_ l e_ (headSpec (ws_ yX4_init cX4_init 2 none) ({ frames := 1, cells := 238, slots := 2785, locals := 32 })).room s_ m_ ([.ref o_] : List Value).toArray below_ meth_ c_ H locs 238 2785 (MQ below_ (hQv G out_ A) ([.ref o_] : List Value).toArray s_ 238 2785 A) (F0 m_ 267 ls []) := by
    intro w78_ hw_
    have hd := hq80
    subst hw_
    clear hL79 hq80
    intro H locs ls hW hS hl
    exact hr_vret hx hb hr hlocks (Option.some.inj hd) hW hS dX4_init_267 (Nat.le_of_ble_eq_true rfl) (Nat.le_of_ble_eq_true rfl)
  have hI86 : ∀ (k85 : Nat) (v77 : Int32 × HP), wt_wh (bX4_init_1 o_) k85 v77 = some w78 → ∀ (H : Heap) (locs : List Loc) (ls : Array Slot), Hw G A v77.2 H → va_S A s_.heap H locs → lv_has ls 2 [(0, .ref o_), (1, .int v77.1)] → W p_ l e_ (headSpec (ws_ yX4_init cX4_init 2 none) ({ frames := 1, cells := 238, slots := 2785, locals := 32 })).room s_ m_ ([.ref o_] : List Value).toArray below_ meth_ c_ H locs 238 2785 (MQ below_ (hQv G out_ A) ([.ref o_] : List Value).toArray s_ 238 2785 A) (F0 m_ 247 ls []) := by
    intro k85
    induction k85 with
    | zero => intro v77 hd; exact absurd hd wt_wh_z
    | succ k85 ih83 =>
      intro v77 hd
      intro H locs ls hW hS hl
      obtain ⟨r84, hd, hk82⟩ := wt_wh_o hd
      unfold bX4_init_1 at hd
      refine lv_iload_n (pc := 247) hx hb dX4_init_247 rfl (lv_at hl 1 rfl) ?_
      refine lv_bipush (pc := 248) (v := 10) hx hb dX4_init_248 (by decide) ?_
      refine lv_icmp_ge (pc := 250) (tgt := 267) hx hb dX4_init_250 (by decide) (fun c87 => ?_) (fun c87 => ?_)
      · have hd := wt_it hd c87
        exact hX81 v77.2 (wt_exit hd hk82) _ _ _ hW hS (lv_sub hl [] rfl)
      · have hd := wt_if hd c87
        refine lv_aload_n (pc := 253) hx hb dX4_init_253 rfl (lv_at hl 0 rfl) ?_
        obtain ⟨ad88, h89, hd⟩ := wt_bd_o hd
        refine hr_get (pc := 254) hx hb hts hown hK hW (hgA_o h89) hf_17_13 (fun _ h => h) q1542 dX4_init_254 ?_
        refine lv_iload_n (pc := 257) hx hb dX4_init_257 rfl (lv_at hl 1 rfl) ?_
        refine lv_bipush (pc := 258) (v := 16) hx hb dX4_init_258 (by decide) ?_
        obtain ⟨z90, h91, hd⟩ := wt_bd_o hd
        obtain ⟨h92, hd⟩ := wt_ck_o hd
        obtain ⟨τ93, eτ93, hd⟩ := wt_lt_o hd
        refine hr_iast (pc := 260) hx hb hK hW hS h91 h92 eτ93 dX4_init_260 (fun H locs hW hS => ?_)
        obtain ⟨n94, en94, hd⟩ := wt_lt_o hd
        refine lv_iinc (pc := 261) (k := 1) (v := n94) (lv' := [(1, .int n94), (0, .ref o_)]) hx hb dX4_init_261 hl rfl en94.symm (by decide) rfl (fun ls hl => ?_)
        refine lv_goto (pc := 264) (tgt := 247) hx hb dX4_init_264 (by decide) ?_
        exact ih83 _ (wt_again hd hk82) _ _ _ hW hS (lv_sub hl [1, 0] rfl)
  obtain ⟨k85, hL79⟩ := wt_whC_o hL79
  exact hI86 k85 _ hL79 _ _ _ hW hS (lv_sub hl [1, 0] rfl)
theorem kX4_init {p : Program} {l : Launch} {e : Env} {R : Room} {s : State} {m : MethodId} {args : Array Value} {below : List Frame} {meth : Method} {c : Code} {H : Heap} {locs : List Loc} {cells slots : Nat} {Q : State → Prop} {cc : ByteArray} {pc : Nat} {ls : Array Slot} {rest : List Value} {nL : Nat} {own : String} {index : Nat} {G : HG} {A : Nat → Prop} {τ : HP} {o_ : Nat} {out_ : HP} (hx : p.tables.exec = Jvm.exec) (hb : c.code = cc) (hml : c.maxLocals = nL) (hown : s.vm.findClass own = some m.cls) (hts : ∀ w ∈ lw_all, w.before args s = true) (hC : Hcx G A s) (hW : Hw G A τ H) (hS : va_S A s.heap H locs) (hd : eX4_init τ o_ = some out_) (hsz : ls.size = nL) (hrm : (rest.map fun v => v.category).sum ≤ 8) (hR : 2 ≤ R.frames ∧ 53 ≤ R.locals) (hcs : (cells + 238) ≤ R.cells ∧ (slots + 2785) ≤ R.slots) (hlk : Cond.methodLink own index yX4_init ∈ lw_all) (hdg : decode cc pc = .ok (.invokespecial index, 3)) (kk : ∀ (H1 : Heap) (locs1 : List Loc), Hw G A out_ H1 → va_S A s.heap H1 locs1 → W p l e R s m args below meth c H1 locs1 (cells + 238) (slots + 2785) Q (F0 m (pc + 3) ls (rest))) : W p l e R s m args below meth c H locs cells slots Q (F0 m pc ls (.ref o_ :: rest)) := by
  refine va_callv (va_runI (As := []) (rest := rest) ⟨hx, hb, hml, hown, hts⟩ (wX4_init l hd) (cwI 0 hts (lw_meth q1525) rfl rfl rfl (hts _ q88) (hts _ hlk) (hts _ q1524) rfl (by decide +kernel) hR) (hr_preS hC hW hS) rfl rfl hsz rfl (lv_room hrm) hdg hcs) hS (fun _ _ h => h) (fun _ h => h) (fun u t H1 locs1 ht hvm hp hB hz hk hS1 => ?_)
  have hW1 : Hw G A out_ t.heap := hB
  rw [ht] at hW1
  exact kk H1 locs1 hW1 hS1
