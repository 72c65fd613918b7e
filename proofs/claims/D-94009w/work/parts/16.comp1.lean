/-! law, scene, great numbers, finds, shops, events (by gen/comp.py) -/
set_option maxRecDepth 100000
theorem hf_5_6_7_0 : hfB [5, 6, 7] 0 "WoolThreads$Event" "place" "I" true = true := by decide +kernel
theorem hf_5_6_7_1 : hfB [5, 6, 7] 1 "WoolThreads$Event" "hour" "I" true = true := by decide +kernel
theorem hf_7_2 : hfB [7] 2 "WoolThreads$Stay" "of" "I" true = true := by decide +kernel
theorem hf_9_1 : hfB [9] 1 "WoolThreads$Scene" "lies" "[I" true = true := by decide +kernel
theorem hf_7_0 : hfB [7] 0 "WoolThreads$Event" "place" "I" true = true := by decide +kernel
theorem hf_9_0 : hfB [9] 0 "WoolThreads$Scene" "law" "LWoolThreads$Law;" true = true := by decide +kernel
theorem hf_1_4 : hfB [1] 4 "WoolThreads$Law" "wash" "I" false = true := by decide +kernel
theorem hf_9_2 : hfB [9] 2 "WoolThreads$Scene" "wears" "[I" true = true := by decide +kernel
theorem hf_1_1 : hfB [1] 1 "WoolThreads$Law" "hold" "[I" true = true := by decide +kernel
theorem hf_1_0 : hfB [1] 0 "WoolThreads$Law" "shed" "[I" true = true := by decide +kernel
theorem hf_1_5 : hfB [1] 5 "WoolThreads$Law" "pass" "I" false = true := by decide +kernel
theorem hf_1_3 : hfB [1] 3 "WoolThreads$Law" "alike" "[I" true = true := by decide +kernel
theorem hf_1_2 : hfB [1] 2 "WoolThreads$Law" "common" "[I" true = true := by decide +kernel
theorem hf_10_0 : hfB [10] 0 "WoolThreads$Find" "place" "I" true = true := by decide +kernel
theorem hf_10_1 : hfB [10] 1 "WoolThreads$Find" "hour" "I" true = true := by decide +kernel
theorem hf_10_2 : hfB [10] 2 "WoolThreads$Find" "sort" "I" true = true := by decide +kernel
theorem hf_10_3 : hfB [10] 3 "WoolThreads$Find" "many" "I" true = true := by decide +kernel
theorem hf_11_1 : hfB [11] 1 "WoolThreads$Great" "size" "I" false = true := by decide +kernel
theorem hf_11_0 : hfB [11] 0 "WoolThreads$Great" "d" "[I" true = true := by decide +kernel
theorem hf_12_0 : hfB [12] 0 "WoolThreads$Shop" "sort" "I" true = true := by decide +kernel
theorem hf_12_1 : hfB [12] 1 "WoolThreads$Shop" "sold" "I" true = true := by decide +kernel
theorem hf_12_2 : hfB [12] 2 "WoolThreads$Shop" "all" "I" true = true := by decide +kernel
theorem hf_1_6 : hfB [1] 6 "WoolThreads$Law" "take" "I" false = true := by decide +kernel
theorem hf_5_2 : hfB [5] 2 "WoolThreads$Wear" "garment" "I" true = true := by decide +kernel
theorem hf_5_0 : hfB [5] 0 "WoolThreads$Event" "place" "I" true = true := by decide +kernel
theorem hf_6_2 : hfB [6] 2 "WoolThreads$Touch" "other" "I" true = true := by decide +kernel
theorem hf_6_0 : hfB [6] 0 "WoolThreads$Event" "place" "I" true = true := by decide +kernel
noncomputable def eX7_init (τ : HP) (o_ : Nat) (a0 : Int32) (a1 : Int32) : Option (HP) :=
  wt_bd (hp τ o_ [5, 6, 7] 0 (.int a0)) fun τ1 => wt_bd (hp τ1 o_ [5, 6, 7] 1 (.int a1)) fun τ3 => some (τ3)
set_option maxHeartbeats 4000000 in
theorem wX7_init (l : Launch) {G : HG} {A : Nat → Prop} {τ : HP} {o_ : Nat} {a0 : Int32} {a1 : Int32} {out_ : HP} (hd : eX7_init τ o_ a0 a1 = some out_) : Met l yX7_init (ws_ yX7_init cX7_init 3 none) ({ frames := 1, cells := 0, slots := 0, locals := 32 }) (hPc G A τ [.ref o_, .int a0, .int a1]) (hQv G out_ A) 0 0 A := by
  refine Met.ofW (cc := cX7_init) (maxL := 3) (ret := none) (by decide) rfl ?_
  intro p_ e_ s_ m_ args_ below_ meth_ c_ s₁_ B hml hv
  obtain ⟨rfl, hW, hC⟩ := hv
  have hx := B.exec
  have hb := B.bytes
  have hr := B.returns
  have hts := atoms_spec (ws := (ws_ yX7_init cX7_init 3 none)) B.pre
  have hts : ∀ w ∈ lw_all, w.before _ s_ = true := fun w h => hts w (List.mem_cons_of_mem _ h)
  have hown : s_.vm.findClass RX7 = some m_.cls := findClass_of_methodNamed B.named
  have hlocks := B.notSynchronized
  have hK := hC.1
  have hT := hC.2.1
  have hL := hC.2.2.1
  have hZ := hC.2.2.2.2.1
  have hA := hC.2.2.2.2.2
  have hin2 : meth_.name = "<init>" := (name_of_methodNamed B.named B.method).1
  have hS : va_S A s_.heap s_.heap [] := va_S.rf
  have hl := lv_entry ([.ref o_, .int a0, .int a1]) (n := 3) (Nat.le_of_ble_eq_true rfl)
  rw [lg_entry_eq]
  generalize (lg_sl ([.ref o_, .int a0, .int a1]) ++ List.replicate (3 - (lg_sl ([.ref o_, .int a0, .int a1])).length) Slot.unset).toArray = ls at hl ⊢
  have hl : lv_has ls 3 [(0, .ref o_), (1, .int a0), (2, .int a1)] := hl
  unfold eX7_init at hd
  refine lv_aload_n (pc := 0) hx hb dX7_init_0 rfl (lv_at hl 0 rfl) ?_
  refine W.objInit (g := F0 m_ 1 ls _) hx hb hown (hts _ q922) (hts _ q110) (hts _ q111) rfl (by rw [hml]; exact hl.1) rfl dX7_init_1 (Nat.le_of_ble_eq_true rfl) (Nat.le_of_ble_eq_true rfl) ?_
  refine W.eq (g2 := F0 m_ 4 ls []) rfl ?_
  refine lv_aload_n (pc := 4) hx hb dX7_init_4 rfl (lv_at hl 0 rfl) ?_
  refine lv_iload_n (pc := 5) hx hb dX7_init_5 rfl (lv_at hl 1 rfl) ?_
  obtain ⟨τ1, h2, hd⟩ := wt_bd_o hd
  refine hr_putF (pc := 6) (ty := .int) hx hb hts hown hK hin2 hW hS h2 hf_5_6_7_0 (by decide +kernel) rfl rfl q924 dX7_init_6 (fun H locs hW hS => ?_)
  refine lv_aload_n (pc := 9) hx hb dX7_init_9 rfl (lv_at hl 0 rfl) ?_
  refine lv_iload_n (pc := 10) hx hb dX7_init_10 rfl (lv_at hl 2 rfl) ?_
  obtain ⟨τ3, h4, hd⟩ := wt_bd_o hd
  refine hr_putF (pc := 11) (ty := .int) hx hb hts hown hK hin2 hW hS h4 hf_5_6_7_1 (by decide +kernel) rfl rfl q932 dX7_init_11 (fun H locs hW hS => ?_)
  exact hr_vret hx hb hr hlocks (Option.some.inj hd) hW hS dX7_init_14 (Nat.le_of_ble_eq_true rfl) (Nat.le_of_ble_eq_true rfl)
theorem kX7_init {p : Program} {l : Launch} {e : Env} {R : Room} {s : State} {m : MethodId} {args : Array Value} {below : List Frame} {meth : Method} {c : Code} {H : Heap} {locs : List Loc} {cells slots : Nat} {Q : State → Prop} {cc : ByteArray} {pc : Nat} {ls : Array Slot} {rest : List Value} {nL : Nat} {own : String} {index : Nat} {G : HG} {A : Nat → Prop} {τ : HP} {o_ : Nat} {a0 : Int32} {a1 : Int32} {out_ : HP} (hx : p.tables.exec = Jvm.exec) (hb : c.code = cc) (hml : c.maxLocals = nL) (hown : s.vm.findClass own = some m.cls) (hts : ∀ w ∈ lw_all, w.before args s = true) (hC : Hcx G A s) (hW : Hw G A τ H) (hS : va_S A s.heap H locs) (hd : eX7_init τ o_ a0 a1 = some out_) (hsz : ls.size = nL) (hrm : (rest.map fun v => v.category).sum ≤ 8) (hR : 2 ≤ R.frames ∧ 54 ≤ R.locals) (hcs : cells ≤ R.cells ∧ slots ≤ R.slots) (hlk : Cond.methodLink own index yX7_init ∈ lw_all) (hdg : decode cc pc = .ok (.invokespecial index, 3)) (kk : ∀ (H1 : Heap) (locs1 : List Loc), Hw G A out_ H1 → va_S A s.heap H1 locs1 → W p l e R s m args below meth c H1 locs1 cells slots Q (F0 m (pc + 3) ls (rest))) : W p l e R s m args below meth c H locs cells slots Q (F0 m pc ls (.int a1 :: .int a0 :: .ref o_ :: rest)) := by
  refine va_callv (va_runI (As := [.int a0, .int a1]) (rest := rest) ⟨hx, hb, hml, hown, hts⟩ (wX7_init l hd) (cwI 2 hts (lw_meth q921) rfl rfl rfl (hts _ q91) (hts _ hlk) (hts _ q920) rfl (by decide +kernel) hR) (hr_preS hC hW hS) rfl rfl hsz rfl (lv_room hrm) hdg hcs) hS (fun _ _ h => h) (fun _ h => h) (fun u t H1 locs1 ht hvm hp hB hz hk hS1 => ?_)
  have hW1 : Hw G A out_ t.heap := hB
  rw [ht] at hW1
  exact kk H1 locs1 hW1 hS1
noncomputable def eX10_init (τ : HP) (o_ : Nat) (a0 : Int32) (a1 : Int32) (a2 : Int32) : Option (HP) :=
  wt_bd (eX7_init τ o_ a0 a2) fun w1 => wt_bd (hp w1 o_ [7] 2 (.int a1)) fun τ3 => some (τ3)
set_option maxHeartbeats 4000000 in
theorem wX10_init (l : Launch) {G : HG} {A : Nat → Prop} {τ : HP} {o_ : Nat} {a0 : Int32} {a1 : Int32} {a2 : Int32} {out_ : HP} (hd : eX10_init τ o_ a0 a1 a2 = some out_) : Met l yX10_init (ws_ yX10_init cX10_init 4 none) ({ frames := 2, cells := 0, slots := 0, locals := 54 }) (hPc G A τ [.ref o_, .int a0, .int a1, .int a2]) (hQv G out_ A) 0 0 A := by
  refine Met.ofW (cc := cX10_init) (maxL := 4) (ret := none) (by decide) rfl ?_
  intro p_ e_ s_ m_ args_ below_ meth_ c_ s₁_ B hml hv
  obtain ⟨rfl, hW, hC⟩ := hv
  have hx := B.exec
  have hb := B.bytes
  have hr := B.returns
  have hts := atoms_spec (ws := (ws_ yX10_init cX10_init 4 none)) B.pre
  have hts : ∀ w ∈ lw_all, w.before _ s_ = true := fun w h => hts w (List.mem_cons_of_mem _ h)
  have hown : s_.vm.findClass RX10 = some m_.cls := findClass_of_methodNamed B.named
  have hlocks := B.notSynchronized
  have hK := hC.1
  have hT := hC.2.1
  have hL := hC.2.2.1
  have hZ := hC.2.2.2.2.1
  have hA := hC.2.2.2.2.2
  have hin2 : meth_.name = "<init>" := (name_of_methodNamed B.named B.method).1
  have hS : va_S A s_.heap s_.heap [] := va_S.rf
  have hl := lv_entry ([.ref o_, .int a0, .int a1, .int a2]) (n := 4) (Nat.le_of_ble_eq_true rfl)
  rw [lg_entry_eq]
  generalize (lg_sl ([.ref o_, .int a0, .int a1, .int a2]) ++ List.replicate (4 - (lg_sl ([.ref o_, .int a0, .int a1, .int a2])).length) Slot.unset).toArray = ls at hl ⊢
  have hl : lv_has ls 4 [(0, .ref o_), (1, .int a0), (2, .int a1), (3, .int a2)] := hl
  unfold eX10_init at hd
  refine lv_aload_n (pc := 0) hx hb dX10_init_0 rfl (lv_at hl 0 rfl) ?_
  refine lv_iload_n (pc := 1) hx hb dX10_init_1 rfl (lv_at hl 1 rfl) ?_
  refine lv_iload_n (pc := 2) hx hb dX10_init_2 rfl (lv_at hl 3 rfl) ?_
  obtain ⟨w1, hc2, hd⟩ := wt_bd_o hd
  refine kX7_init (pc := 3) hx hb hml hown hts hC hW hS hc2 hl.1 (Nat.le_of_ble_eq_true rfl) ⟨Nat.le_of_ble_eq_true rfl, Nat.le_of_ble_eq_true rfl⟩ ⟨Nat.le_of_ble_eq_true rfl, Nat.le_of_ble_eq_true rfl⟩ q962 dX10_init_3 (fun H locs hW hS => ?_)
  refine lv_aload_n (pc := 6) hx hb dX10_init_6 rfl (lv_at hl 0 rfl) ?_
  refine lv_iload_n (pc := 7) hx hb dX10_init_7 rfl (lv_at hl 2 rfl) ?_
  obtain ⟨τ3, h4, hd⟩ := wt_bd_o hd
  refine hr_putF (pc := 8) (ty := .int) hx hb hts hown hK hin2 hW hS h4 hf_7_2 (by decide +kernel) rfl rfl q963 dX10_init_8 (fun H locs hW hS => ?_)
  exact hr_vret hx hb hr hlocks (Option.some.inj hd) hW hS dX10_init_11 (Nat.le_of_ble_eq_true rfl) (Nat.le_of_ble_eq_true rfl)
theorem kX10_init {p : Program} {l : Launch} {e : Env} {R : Room} {s : State} {m : MethodId} {args : Array Value} {below : List Frame} {meth : Method} {c : Code} {H : Heap} {locs : List Loc} {cells slots : Nat} {Q : State → Prop} {cc : ByteArray} {pc : Nat} {ls : Array Slot} {rest : List Value} {nL : Nat} {own : String} {index : Nat} {G : HG} {A : Nat → Prop} {τ : HP} {o_ : Nat} {a0 : Int32} {a1 : Int32} {a2 : Int32} {out_ : HP} (hx : p.tables.exec = Jvm.exec) (hb : c.code = cc) (hml : c.maxLocals = nL) (hown : s.vm.findClass own = some m.cls) (hts : ∀ w ∈ lw_all, w.before args s = true) (hC : Hcx G A s) (hW : Hw G A τ H) (hS : va_S A s.heap H locs) (hd : eX10_init τ o_ a0 a1 a2 = some out_) (hsz : ls.size = nL) (hrm : (rest.map fun v => v.category).sum ≤ 8) (hR : 3 ≤ R.frames ∧ 77 ≤ R.locals) (hcs : cells ≤ R.cells ∧ slots ≤ R.slots) (hlk : Cond.methodLink own index yX10_init ∈ lw_all) (hdg : decode cc pc = .ok (.invokespecial index, 3)) (kk : ∀ (H1 : Heap) (locs1 : List Loc), Hw G A out_ H1 → va_S A s.heap H1 locs1 → W p l e R s m args below meth c H1 locs1 cells slots Q (F0 m (pc + 3) ls (rest))) : W p l e R s m args below meth c H locs cells slots Q (F0 m pc ls (.int a2 :: .int a1 :: .int a0 :: .ref o_ :: rest)) := by
  refine va_callv (va_runI (As := [.int a0, .int a1, .int a2]) (rest := rest) ⟨hx, hb, hml, hown, hts⟩ (wX10_init l hd) (cwI 3 hts (lw_meth q961) rfl rfl rfl (hts _ q95) (hts _ hlk) (hts _ q960) rfl (by decide +kernel) hR) (hr_preS hC hW hS) rfl rfl hsz rfl (lv_room hrm) hdg hcs) hS (fun _ _ h => h) (fun _ h => h) (fun u t H1 locs1 ht hvm hp hB hz hk hS1 => ?_)
  have hW1 : Hw G A out_ t.heap := hB
  rw [ht] at hW1
  exact kk H1 locs1 hW1 hS1
noncomputable def bX12_stay_1 (o_ : Nat) (a0 : Int32) (a1 : Int32) (v1 : Int32 × HP) : Option ((Int32 × HP) ⊕ (HP)) :=
  if (10 : Int32) ≤ v1.1 then (some (.inr v1.2)) else (wt_bd (hgA v1.2 o_ [9] 1) fun ad12 => wt_bd (hgA v1.2 o_ [9] 1) fun ad14 => wt_bd (haI v1.2 ad14 0) fun z16 => wt_ck (vp_in (((10 : Int32) * a0) + v1.1) z16.1) <| wt_bd (haI v1.2 ad12 0) fun z19 => wt_ck (vp_in (((10 : Int32) * a0) + v1.1) z19.1) <| wt_lt (hst v1.2 ad12 (.inl (0, z19.1, .inl (upd z19.2 (((10 : Int32) * a0) + v1.1).toNatClampNeg (((z16.2 (((10 : Int32) * a0) + v1.1).toNatClampNeg) * a1) / (16 : Int32)))))) fun τ22 => wt_lt (v1.1 + (1 : Int32)) fun n23 => some (.inl (n23, τ22)))
noncomputable def eX12_stay (τ : HP) (o_ : Nat) (a0 : Int32) (a1 : Int32) : Option (HP) :=
  wt_bd (wt_whC (bX12_stay_1 o_ a0 a1) ((0 : Int32), τ)) fun w2 => some w2
set_option maxHeartbeats 4000000 in
theorem wX12_stay (l : Launch) {G : HG} {A : Nat → Prop} {τ : HP} {o_ : Nat} {a0 : Int32} {a1 : Int32} {out_ : HP} (hd : eX12_stay τ o_ a0 a1 = some out_) : Met l yX12_stay (ws_ yX12_stay cX12_stay 4 none) ({ frames := 0, cells := 0, slots := 0, locals := 0 }) (hPc G A τ [.ref o_, .int a0, .int a1]) (hQv G out_ A) 0 0 A := by
  refine Met.ofW (cc := cX12_stay) (maxL := 4) (ret := none) (by decide) rfl ?_
  intro p_ e_ s_ m_ args_ below_ meth_ c_ s₁_ B hml hv
  obtain ⟨rfl, hW, hC⟩ := hv
  have hx := B.exec
  have hb := B.bytes
  have hr := B.returns
  have hts := atoms_spec (ws := (ws_ yX12_stay cX12_stay 4 none)) B.pre
  have hts : ∀ w ∈ lw_all, w.before _ s_ = true := fun w h => hts w (List.mem_cons_of_mem _ h)
  have hown : s_.vm.findClass RX12 = some m_.cls := findClass_of_methodNamed B.named
  have hlocks := B.notSynchronized
  have hK := hC.1
  have hT := hC.2.1
  have hL := hC.2.2.1
  have hZ := hC.2.2.2.2.1
  have hA := hC.2.2.2.2.2
  have hS : va_S A s_.heap s_.heap [] := va_S.rf
  have hl := lv_entry ([.ref o_, .int a0, .int a1]) (n := 4) (Nat.le_of_ble_eq_true rfl)
  rw [lg_entry_eq]
  generalize (lg_sl ([.ref o_, .int a0, .int a1]) ++ List.replicate (4 - (lg_sl ([.ref o_, .int a0, .int a1])).length) Slot.unset).toArray = ls at hl ⊢
  have hl : lv_has ls 4 [(0, .ref o_), (1, .int a0), (2, .int a1)] := hl
  unfold eX12_stay at hd
  refine lv_iconst (pc := 0) (v := 0) hx hb dX12_stay_0 (by decide) ?_
  refine lv_istore_n (pc := 1) (lv' := [(3, .int (0 : Int32)), (0, .ref o_), (1, .int a0), (2, .int a1)]) hx hb dX12_stay_1 rfl hl (by decide) rfl (fun ls hl => ?_)
  obtain ⟨w2, hL3, hq4⟩ := wt_bd_o hd
  have hX5 : ∀ w2_ : HP, w2_ = w2 → ∀ (H : Heap) (locs : List Loc) (ls : Array Slot), Hw G A w2_ H → va_S A s_.heap H locs → lv_has ls 4 [] → W p_ l e_ (headSpec (ws_ yX12_stay cX12_stay 4 none) ({ frames := 0, cells := 0, slots := 0, locals := 0 })).room s_ m_ ([.ref o_, .int a0, .int a1] : List Value).toArray below_ meth_ c_ H locs 0 0 (MQ below_ (hQv G out_ A) ([.ref o_, .int a0, .int a1] : List Value).toArray s_ 0 0 A) (F0 m_ 41 ls []) := by
    intro w2_ hw_
    have hd := hq4
    subst hw_
    clear hL3 hq4
    intro H locs ls hW hS hl
    exact hr_vret hx hb hr hlocks (Option.some.inj hd) hW hS dX12_stay_41 (Nat.le_of_ble_eq_true rfl) (Nat.le_of_ble_eq_true rfl)
  have hI10 : ∀ (k9 : Nat) (v1 : Int32 × HP), wt_wh (bX12_stay_1 o_ a0 a1) k9 v1 = some w2 → ∀ (H : Heap) (locs : List Loc) (ls : Array Slot), Hw G A v1.2 H → va_S A s_.heap H locs → lv_has ls 4 [(0, .ref o_), (1, .int a0), (2, .int a1), (3, .int v1.1)] → W p_ l e_ (headSpec (ws_ yX12_stay cX12_stay 4 none) ({ frames := 0, cells := 0, slots := 0, locals := 0 })).room s_ m_ ([.ref o_, .int a0, .int a1] : List Value).toArray below_ meth_ c_ H locs 0 0 (MQ below_ (hQv G out_ A) ([.ref o_, .int a0, .int a1] : List Value).toArray s_ 0 0 A) (F0 m_ 2 ls []) := by
    intro k9
    induction k9 with
    | zero => intro v1 hd; exact absurd hd wt_wh_z
    | succ k9 ih7 =>
      intro v1 hd
      intro H locs ls hW hS hl
      obtain ⟨r8, hd, hk6⟩ := wt_wh_o hd
      unfold bX12_stay_1 at hd
      refine lv_iload_n (pc := 2) hx hb dX12_stay_2 rfl (lv_at hl 3 rfl) ?_
      refine lv_bipush (pc := 3) (v := 10) hx hb dX12_stay_3 (by decide) ?_
      refine lv_icmp_ge (pc := 5) (tgt := 41) hx hb dX12_stay_5 (by decide) (fun c11 => ?_) (fun c11 => ?_)
      · have hd := wt_it hd c11
        exact hX5 v1.2 (wt_exit hd hk6) _ _ _ hW hS (lv_sub hl [] rfl)
      · have hd := wt_if hd c11
        refine lv_aload_n (pc := 8) hx hb dX12_stay_8 rfl (lv_at hl 0 rfl) ?_
        obtain ⟨ad12, h13, hd⟩ := wt_bd_o hd
        refine hr_get (pc := 9) hx hb hts hown hK hW (hgA_o h13) hf_9_1 (fun _ h => h) q1079 dX12_stay_9 ?_
        refine lv_bipush (pc := 12) (v := 10) hx hb dX12_stay_12 (by decide) ?_
        refine lv_iload_n (pc := 14) hx hb dX12_stay_14 rfl (lv_at hl 1 rfl) ?_
        refine lv_imul (pc := 15) hx hb dX12_stay_15 ?_
        refine lv_iload_n (pc := 16) hx hb dX12_stay_16 rfl (lv_at hl 3 rfl) ?_
        refine lv_iadd (pc := 17) hx hb dX12_stay_17 ?_
        refine lv_aload_n (pc := 18) hx hb dX12_stay_18 rfl (lv_at hl 0 rfl) ?_
        obtain ⟨ad14, h15, hd⟩ := wt_bd_o hd
        refine hr_get (pc := 19) hx hb hts hown hK hW (hgA_o h15) hf_9_1 (fun _ h => h) q1079 dX12_stay_19 ?_
        refine lv_bipush (pc := 22) (v := 10) hx hb dX12_stay_22 (by decide) ?_
        refine lv_iload_n (pc := 24) hx hb dX12_stay_24 rfl (lv_at hl 1 rfl) ?_
        refine lv_imul (pc := 25) hx hb dX12_stay_25 ?_
        refine lv_iload_n (pc := 26) hx hb dX12_stay_26 rfl (lv_at hl 3 rfl) ?_
        refine lv_iadd (pc := 27) hx hb dX12_stay_27 ?_
        obtain ⟨z16, h17, hd⟩ := wt_bd_o hd
        obtain ⟨h18, hd⟩ := wt_ck_o hd
        refine hr_iald (pc := 28) hx hb hK hW h17 h18 dX12_stay_28 ?_
        refine lv_iload_n (pc := 29) hx hb dX12_stay_29 rfl (lv_at hl 2 rfl) ?_
        refine lv_imul (pc := 30) hx hb dX12_stay_30 ?_
        refine lv_bipush (pc := 31) (v := 16) hx hb dX12_stay_31 (by decide) ?_
        refine lv_idiv (pc := 33) hx hb dX12_stay_33 (by decide) ?_
        obtain ⟨z19, h20, hd⟩ := wt_bd_o hd
        obtain ⟨h21, hd⟩ := wt_ck_o hd
        obtain ⟨τ22, eτ22, hd⟩ := wt_lt_o hd
        refine hr_iast (pc := 34) hx hb hK hW hS h20 h21 eτ22 dX12_stay_34 (fun H locs hW hS => ?_)
        obtain ⟨n23, en23, hd⟩ := wt_lt_o hd
        refine lv_iinc (pc := 35) (k := 3) (v := n23) (lv' := [(3, .int n23), (0, .ref o_), (1, .int a0), (2, .int a1)]) hx hb dX12_stay_35 hl rfl en23.symm (by decide) rfl (fun ls hl => ?_)
        refine lv_goto (pc := 38) (tgt := 2) hx hb dX12_stay_38 (by decide) ?_
        exact ih7 _ (wt_again hd hk6) _ _ _ hW hS (lv_sub hl [1, 2, 3, 0] rfl)
  obtain ⟨k9, hL3⟩ := wt_whC_o hL3
  exact hI10 k9 _ hL3 _ _ _ hW hS (lv_sub hl [1, 2, 3, 0] rfl)
theorem kX12_stay {p : Program} {l : Launch} {e : Env} {R : Room} {s : State} {m : MethodId} {args : Array Value} {below : List Frame} {meth : Method} {c : Code} {H : Heap} {locs : List Loc} {cells slots : Nat} {Q : State → Prop} {cc : ByteArray} {pc : Nat} {ls : Array Slot} {rest : List Value} {nL : Nat} {own : String} {index : Nat} {G : HG} {A : Nat → Prop} {τ : HP} {o_ : Nat} {a0 : Int32} {a1 : Int32} {out_ : HP} (hx : p.tables.exec = Jvm.exec) (hb : c.code = cc) (hml : c.maxLocals = nL) (hown : s.vm.findClass own = some m.cls) (hts : ∀ w ∈ lw_all, w.before args s = true) (hC : Hcx G A s) (hW : Hw G A τ H) (hS : va_S A s.heap H locs) (hrc : hcl τ o_ = some 9) (hd : eX12_stay τ o_ a0 a1 = some out_) (hsz : ls.size = nL) (hrm : (rest.map fun v => v.category).sum ≤ 8) (hR : 1 ≤ R.frames ∧ 23 ≤ R.locals) (hcs : cells ≤ R.cells ∧ slots ≤ R.slots) (hlk : Cond.methodLink own index yX12_stay ∈ lw_all) (hdg : decode cc pc = .ok (.invokevirtual index, 3)) (kk : ∀ (H1 : Heap) (locs1 : List Loc), Hw G A out_ H1 → va_S A s.heap H1 locs1 → W p l e R s m args below meth c H1 locs1 cells slots Q (F0 m (pc + 3) ls (rest))) : W p l e R s m args below meth c H locs cells slots Q (F0 m pc ls (.int a1 :: .int a0 :: .ref o_ :: rest)) := by
  refine va_callv (va_runV (As := [.int a0, .int a1]) (rest := rest) ⟨hx, hb, hml, hown, hts⟩ (wX12_stay l hd) (cwV 2 hts (lw_V hlk q1119 q1120 q98 q1121) rfl rfl rfl (by decide +kernel) hR) (hr_preV hC hW hS hrc rfl rfl) rfl rfl hsz rfl (lv_room hrm) hdg hcs) hS (fun _ _ h => h) (fun _ h => h) (fun u t H1 locs1 ht hvm hp hB hz hk hS1 => ?_)
  have hW1 : Hw G A out_ t.heap := hB
  rw [ht] at hW1
  exact kk H1 locs1 hW1 hS1
noncomputable def eX10_does (τ : HP) (o_ : Nat) (a0 : Nat) : Option (HP) :=
  wt_bd (hgI τ o_ [7] 0) fun f1 => wt_bd (hgI τ o_ [7] 2) fun f3 => wt_bd (if f3 = (-1 : Int32) then (wt_bd (hgA τ a0 [9] 0) fun ad12 => wt_bd (hgI τ ad12 [1] 4) fun f14 => some (f14)) else (wt_bd (hgI τ o_ [7] 2) fun f10 => some (f10))) fun w5 => wt_ck (hcl τ a0 = some 9) <| wt_bd (eX12_stay τ a0 f1 w5) fun w17 => some w17
set_option maxHeartbeats 4000000 in
theorem wX10_does (l : Launch) {G : HG} {A : Nat → Prop} {τ : HP} {o_ : Nat} {a0 : Nat} {out_ : HP} (hd : eX10_does τ o_ a0 = some out_) : Met l yX10_does (ws_ yX10_does cX10_does 2 none) ({ frames := 1, cells := 0, slots := 0, locals := 23 }) (hPc G A τ [.ref o_, .ref a0]) (hQv G out_ A) 0 0 A := by
  refine Met.ofW (cc := cX10_does) (maxL := 2) (ret := none) (by decide) rfl ?_
  intro p_ e_ s_ m_ args_ below_ meth_ c_ s₁_ B hml hv
  obtain ⟨rfl, hW, hC⟩ := hv
  have hx := B.exec
  have hb := B.bytes
  have hr := B.returns
  have hts := atoms_spec (ws := (ws_ yX10_does cX10_does 2 none)) B.pre
  have hts : ∀ w ∈ lw_all, w.before _ s_ = true := fun w h => hts w (List.mem_cons_of_mem _ h)
  have hown : s_.vm.findClass RX10 = some m_.cls := findClass_of_methodNamed B.named
  have hlocks := B.notSynchronized
  have hK := hC.1
  have hT := hC.2.1
  have hL := hC.2.2.1
  have hZ := hC.2.2.2.2.1
  have hA := hC.2.2.2.2.2
  have hS : va_S A s_.heap s_.heap [] := va_S.rf
  have hl := lv_entry ([.ref o_, .ref a0]) (n := 2) (Nat.le_of_ble_eq_true rfl)
  rw [lg_entry_eq]
  generalize (lg_sl ([.ref o_, .ref a0]) ++ List.replicate (2 - (lg_sl ([.ref o_, .ref a0])).length) Slot.unset).toArray = ls at hl ⊢
  have hl : lv_has ls 2 [(0, .ref o_), (1, .ref a0)] := hl
  unfold eX10_does at hd
  refine lv_aload_n (pc := 0) hx hb dX10_does_0 rfl (lv_at hl 1 rfl) ?_
  refine lv_aload_n (pc := 1) hx hb dX10_does_1 rfl (lv_at hl 0 rfl) ?_
  obtain ⟨f1, h2, hd⟩ := wt_bd_o hd
  refine hr_get (pc := 2) hx hb hts hown hK hW (hgI_o h2) hf_7_0 (u_same (hts _ q926)) q925 dX10_does_2 ?_
  refine lv_aload_n (pc := 5) hx hb dX10_does_5 rfl (lv_at hl 0 rfl) ?_
  obtain ⟨f3, h4, hd⟩ := wt_bd_o hd
  refine hr_get (pc := 6) hx hb hts hown hK hW (hgI_o h4) hf_7_2 (fun _ h => h) q963 dX10_does_6 ?_
  refine lv_iconst (pc := 9) (v := -1) hx hb dX10_does_9 (by decide) ?_
  obtain ⟨w5, hj6, hq7⟩ := wt_bd_o hd
  have hX8 : ∀ w5_ : Int32, w5_ = w5 → ∀ (H : Heap) (locs : List Loc) (ls : Array Slot), Hw G A τ H → va_S A s_.heap H locs → lv_has ls 2 [] → W p_ l e_ (headSpec (ws_ yX10_does cX10_does 2 none) ({ frames := 1, cells := 0, slots := 0, locals := 23 })).room s_ m_ ([.ref o_, .ref a0] : List Value).toArray below_ meth_ c_ H locs 0 0 (MQ below_ (hQv G out_ A) ([.ref o_, .ref a0] : List Value).toArray s_ 0 0 A) (F0 m_ 27 ls [.int w5_, .int f1, .ref a0]) := by
    intro w5_ hw_
    have hd := hq7
    subst hw_
    clear hj6 hq7
    intro H locs ls hW hS hl
    obtain ⟨h16, hd⟩ := wt_ck_o hd
    obtain ⟨w17, hc18, hd⟩ := wt_bd_o hd
    refine kX12_stay (pc := 27) hx hb hml hown hts hC hW hS h16 hc18 hl.1 (Nat.le_of_ble_eq_true rfl) ⟨Nat.le_of_ble_eq_true rfl, Nat.le_of_ble_eq_true rfl⟩ ⟨Nat.le_of_ble_eq_true rfl, Nat.le_of_ble_eq_true rfl⟩ q1118 dX10_does_27 (fun H locs hW hS => ?_)
    exact hr_vret hx hb hr hlocks (Option.some.inj hd) hW hS dX10_does_30 (Nat.le_of_ble_eq_true rfl) (Nat.le_of_ble_eq_true rfl)
  have hd := hj6
  refine lv_icmp_ne (pc := 10) (tgt := 23) hx hb dX10_does_10 (by decide) (fun c9 => ?_) (fun c9 => ?_)
  · have hd := wt_if hd c9
    refine lv_aload_n (pc := 23) hx hb dX10_does_23 rfl (lv_at hl 0 rfl) ?_
    obtain ⟨f10, h11, hd⟩ := wt_bd_o hd
    refine hr_get (pc := 24) hx hb hts hown hK hW (hgI_o h11) hf_7_2 (fun _ h => h) q963 dX10_does_24 ?_
    exact hX8 f10 (Option.some.inj hd) _ _ _ hW hS (lv_sub hl [] rfl)
  · have hd := wt_it hd c9
    refine lv_aload_n (pc := 13) hx hb dX10_does_13 rfl (lv_at hl 1 rfl) ?_
    obtain ⟨ad12, h13, hd⟩ := wt_bd_o hd
    refine hr_getN (pc := 14) hx hb hts hown hK hT hW (hgA_o h13) hf_9_0 (fun _ h => h) q1078 dX10_does_14 ?_
    obtain ⟨f14, h15, hd⟩ := wt_bd_o hd
    refine hr_getN (pc := 17) hx hb hts hown hK hT hW (hgI_o h15) hf_1_4 (fun _ h => h) q133 dX10_does_17 ?_
    refine lv_goto (pc := 20) (tgt := 27) hx hb dX10_does_20 (by decide) ?_
    exact hX8 f14 (Option.some.inj hd) _ _ _ hW hS (lv_sub hl [] rfl)

noncomputable def bX12_init_1 (o_ : Nat) (v9 : Int32 × HP) : Option ((Int32 × HP) ⊕ (HP)) :=
  if (10 : Int32) ≤ v9.1 then (some (.inr v9.2)) else (wt_bd (hgA v9.2 o_ [9] 2) fun ad20 => wt_bd (haI v9.2 ad20 0) fun z22 => wt_ck (vp_in v9.1 z22.1) <| wt_lt (hst v9.2 ad20 (.inl (0, z22.1, .inl (upd z22.2 v9.1.toNatClampNeg (-1 : Int32))))) fun τ25 => wt_lt (v9.1 + (1 : Int32)) fun n26 => some (.inl (n26, τ25)))
noncomputable def eX12_init (τ : HP) (o_ : Nat) (a0 : Nat) : Option (HP) :=
  wt_lt (hnew τ (.inl (0, 100, .inl (fun _ => 0)))) fun τ1 => wt_bd (hp τ1 o_ [9] 1 (.ref (τ.2))) fun τ2 => wt_lt (hnew τ2 (.inl (0, 10, .inl (fun _ => 0)))) fun τ4 => wt_bd (hp τ4 o_ [9] 2 (.ref (τ2.2))) fun τ5 => wt_bd (hp τ5 o_ [9] 0 (.ref a0)) fun τ7 => wt_bd (wt_whC (bX12_init_1 o_) ((0 : Int32), τ7)) fun w10 => some w10
set_option maxHeartbeats 4000000 in
theorem wX12_init (l : Launch) {G : HG} {A : Nat → Prop} {τ : HP} {o_ : Nat} {a0 : Nat} {out_ : HP} (hd : eX12_init τ o_ a0 = some out_) : Met l yX12_init (ws_ yX12_init cX12_init 3 none) ({ frames := 1, cells := 2, slots := 110, locals := 32 }) (hPc G A τ [.ref o_, .ref a0]) (hQv G out_ A) 2 110 A := by
  refine Met.ofW (cc := cX12_init) (maxL := 3) (ret := none) (by decide) rfl ?_
  intro p_ e_ s_ m_ args_ below_ meth_ c_ s₁_ B hml hv
  obtain ⟨rfl, hW, hC⟩ := hv
  have hx := B.exec
  have hb := B.bytes
  have hr := B.returns
  have hts := atoms_spec (ws := (ws_ yX12_init cX12_init 3 none)) B.pre
  have hts : ∀ w ∈ lw_all, w.before _ s_ = true := fun w h => hts w (List.mem_cons_of_mem _ h)
  have hown : s_.vm.findClass RX12 = some m_.cls := findClass_of_methodNamed B.named
  have hlocks := B.notSynchronized
  have hK := hC.1
  have hT := hC.2.1
  have hL := hC.2.2.1
  have hZ := hC.2.2.2.2.1
  have hA := hC.2.2.2.2.2
  have hin2 : meth_.name = "<init>" := (name_of_methodNamed B.named B.method).1
  have hS : va_S A s_.heap s_.heap [] := va_S.rf
  have hl := lv_entry ([.ref o_, .ref a0]) (n := 3) (Nat.le_of_ble_eq_true rfl)
  rw [lg_entry_eq]
  generalize (lg_sl ([.ref o_, .ref a0]) ++ List.replicate (3 - (lg_sl ([.ref o_, .ref a0])).length) Slot.unset).toArray = ls at hl ⊢
  have hl : lv_has ls 3 [(0, .ref o_), (1, .ref a0)] := hl
  unfold eX12_init at hd
  refine lv_aload_n (pc := 0) hx hb dX12_init_0 rfl (lv_at hl 0 rfl) ?_
  refine W.objInit (g := F0 m_ 1 ls _) hx hb hown (hts _ q1076) (hts _ q110) (hts _ q111) rfl (by rw [hml]; exact hl.1) rfl dX12_init_1 (Nat.le_of_ble_eq_true rfl) (Nat.le_of_ble_eq_true rfl) ?_
  refine W.eq (g2 := F0 m_ 4 ls []) rfl ?_
  refine lv_aload_n (pc := 4) hx hb dX12_init_4 rfl (lv_at hl 0 rfl) ?_
  refine lv_bipush (pc := 5) (v := 100) hx hb dX12_init_5 (by decide) ?_
  obtain ⟨τ1, eτ1, hd⟩ := wt_lt_o hd
  refine hr_newI (pc := 7) (N := 100) hx hb hts hK hW hS hA (by decide) rfl (by decide) eτ1 (Nat.le_of_ble_eq_true rfl) (Nat.le_of_ble_eq_true rfl) dX12_init_7 (fun H hW hS => ?_)
  obtain ⟨τ2, h3, hd⟩ := wt_bd_o hd
  refine hr_putF (pc := 9) (ty := (.array .int)) hx hb hts hown hK hin2 hW hS h3 hf_9_1 (by decide +kernel) rfl rfl q1079 dX12_init_9 (fun H locs hW hS => ?_)
  refine lv_aload_n (pc := 12) hx hb dX12_init_12 rfl (lv_at hl 0 rfl) ?_
  refine lv_bipush (pc := 13) (v := 10) hx hb dX12_init_13 (by decide) ?_
  obtain ⟨τ4, eτ4, hd⟩ := wt_lt_o hd
  refine hr_newI (pc := 15) (N := 10) hx hb hts hK hW hS hA (by decide) rfl (by decide) eτ4 (Nat.le_of_ble_eq_true rfl) (Nat.le_of_ble_eq_true rfl) dX12_init_15 (fun H hW hS => ?_)
  obtain ⟨τ5, h6, hd⟩ := wt_bd_o hd
  refine hr_putF (pc := 17) (ty := (.array .int)) hx hb hts hown hK hin2 hW hS h6 hf_9_2 (by decide +kernel) rfl rfl q1081 dX12_init_17 (fun H locs hW hS => ?_)
  refine lv_aload_n (pc := 20) hx hb dX12_init_20 rfl (lv_at hl 0 rfl) ?_
  refine lv_aload_n (pc := 21) hx hb dX12_init_21 rfl (lv_at hl 1 rfl) ?_
  obtain ⟨τ7, h8, hd⟩ := wt_bd_o hd
  refine hr_putF (pc := 22) (ty := (.object "WoolThreads$Law")) hx hb hts hown hK hin2 hW hS h8 hf_9_0 (by decide +kernel) rfl rfl q1077 dX12_init_22 (fun H locs hW hS => ?_)
  refine lv_iconst (pc := 25) (v := 0) hx hb dX12_init_25 (by decide) ?_
  refine lv_istore_n (pc := 26) (lv' := [(2, .int (0 : Int32)), (0, .ref o_), (1, .ref a0)]) hx hb dX12_init_26 rfl hl (by decide) rfl (fun ls hl => ?_)
  obtain ⟨w10, hL11, hq12⟩ := wt_bd_o hd
  have hX13 : ∀ w10_ : HP, w10_ = w10 → ∀ (H : Heap) (locs : List Loc) (ls : Array Slot), Hw G A w10_ H → va_S A s_.heap H locs → lv_has ls 3 [] → W p_ l e_ (headSpec (ws_ yX12_init cX12_init 3 none) ({ frames := 1, cells := 2, slots := 110, locals := 32 })).room s_ m_ ([.ref o_, .ref a0] : List Value).toArray below_ meth_ c_ H locs 2 110 (MQ below_ (hQv G out_ A) ([.ref o_, .ref a0] : List Value).toArray s_ 2 110 A) (F0 m_ 46 ls []) := by
    intro w10_ hw_
    have hd := hq12
    subst hw_
    clear hL11 hq12
    intro H locs ls hW hS hl
    exact hr_vret hx hb hr hlocks (Option.some.inj hd) hW hS dX12_init_46 (Nat.le_of_ble_eq_true rfl) (Nat.le_of_ble_eq_true rfl)
  have hI18 : ∀ (k17 : Nat) (v9 : Int32 × HP), wt_wh (bX12_init_1 o_) k17 v9 = some w10 → ∀ (H : Heap) (locs : List Loc) (ls : Array Slot), Hw G A v9.2 H → va_S A s_.heap H locs → lv_has ls 3 [(0, .ref o_), (2, .int v9.1)] → W p_ l e_ (headSpec (ws_ yX12_init cX12_init 3 none) ({ frames := 1, cells := 2, slots := 110, locals := 32 })).room s_ m_ ([.ref o_, .ref a0] : List Value).toArray below_ meth_ c_ H locs 2 110 (MQ below_ (hQv G out_ A) ([.ref o_, .ref a0] : List Value).toArray s_ 2 110 A) (F0 m_ 27 ls []) := by
    intro k17
    induction k17 with
    | zero => intro v9 hd; exact absurd hd wt_wh_z
    | succ k17 ih15 =>
      intro v9 hd
      intro H locs ls hW hS hl
      obtain ⟨r16, hd, hk14⟩ := wt_wh_o hd
      unfold bX12_init_1 at hd
      refine lv_iload_n (pc := 27) hx hb dX12_init_27 rfl (lv_at hl 1 rfl) ?_
      refine lv_bipush (pc := 28) (v := 10) hx hb dX12_init_28 (by decide) ?_
      refine lv_icmp_ge (pc := 30) (tgt := 46) hx hb dX12_init_30 (by decide) (fun c19 => ?_) (fun c19 => ?_)
      · have hd := wt_it hd c19
        exact hX13 v9.2 (wt_exit hd hk14) _ _ _ hW hS (lv_sub hl [] rfl)
      · have hd := wt_if hd c19
        refine lv_aload_n (pc := 33) hx hb dX12_init_33 rfl (lv_at hl 0 rfl) ?_
        obtain ⟨ad20, h21, hd⟩ := wt_bd_o hd
        refine hr_get (pc := 34) hx hb hts hown hK hW (hgA_o h21) hf_9_2 (fun _ h => h) q1081 dX12_init_34 ?_
        refine lv_iload_n (pc := 37) hx hb dX12_init_37 rfl (lv_at hl 1 rfl) ?_
        refine lv_iconst (pc := 38) (v := -1) hx hb dX12_init_38 (by decide) ?_
        obtain ⟨z22, h23, hd⟩ := wt_bd_o hd
        obtain ⟨h24, hd⟩ := wt_ck_o hd
        obtain ⟨τ25, eτ25, hd⟩ := wt_lt_o hd
        refine hr_iast (pc := 39) hx hb hK hW hS h23 h24 eτ25 dX12_init_39 (fun H locs hW hS => ?_)
        obtain ⟨n26, en26, hd⟩ := wt_lt_o hd
        refine lv_iinc (pc := 40) (k := 1) (v := n26) (lv' := [(2, .int n26), (0, .ref o_)]) hx hb dX12_init_40 hl rfl en26.symm (by decide) rfl (fun ls hl => ?_)
        refine lv_goto (pc := 43) (tgt := 27) hx hb dX12_init_43 (by decide) ?_
        exact ih15 _ (wt_again hd hk14) _ _ _ hW hS (lv_sub hl [1, 0] rfl)
  obtain ⟨k17, hL11⟩ := wt_whC_o hL11
  exact hI18 k17 _ hL11 _ _ _ hW hS (lv_sub hl [1, 0] rfl)
theorem kX12_init {p : Program} {l : Launch} {e : Env} {R : Room} {s : State} {m : MethodId} {args : Array Value} {below : List Frame} {meth : Method} {c : Code} {H : Heap} {locs : List Loc} {cells slots : Nat} {Q : State → Prop} {cc : ByteArray} {pc : Nat} {ls : Array Slot} {rest : List Value} {nL : Nat} {own : String} {index : Nat} {G : HG} {A : Nat → Prop} {τ : HP} {o_ : Nat} {a0 : Nat} {out_ : HP} (hx : p.tables.exec = Jvm.exec) (hb : c.code = cc) (hml : c.maxLocals = nL) (hown : s.vm.findClass own = some m.cls) (hts : ∀ w ∈ lw_all, w.before args s = true) (hC : Hcx G A s) (hW : Hw G A τ H) (hS : va_S A s.heap H locs) (hd : eX12_init τ o_ a0 = some out_) (hsz : ls.size = nL) (hrm : (rest.map fun v => v.category).sum ≤ 8) (hR : 2 ≤ R.frames ∧ 54 ≤ R.locals) (hcs : (cells + 2) ≤ R.cells ∧ (slots + 110) ≤ R.slots) (hlk : Cond.methodLink own index yX12_init ∈ lw_all) (hdg : decode cc pc = .ok (.invokespecial index, 3)) (kk : ∀ (H1 : Heap) (locs1 : List Loc), Hw G A out_ H1 → va_S A s.heap H1 locs1 → W p l e R s m args below meth c H1 locs1 (cells + 2) (slots + 110) Q (F0 m (pc + 3) ls (rest))) : W p l e R s m args below meth c H locs cells slots Q (F0 m pc ls (.ref a0 :: .ref o_ :: rest)) := by
  refine va_callv (va_runI (As := [.ref a0]) (rest := rest) ⟨hx, hb, hml, hown, hts⟩ (wX12_init l hd) (cwI 1 hts (lw_meth q1075) rfl rfl rfl (hts _ q98) (hts _ hlk) (hts _ q1074) rfl (by decide +kernel) hR) (hr_preS hC hW hS) rfl rfl hsz rfl (lv_room hrm) hdg hcs) hS (fun _ _ h => h) (fun _ h => h) (fun u t H1 locs1 ht hvm hp hB hz hk hS1 => ?_)
  have hW1 : Hw G A out_ t.heap := hB
  rw [ht] at hW1
  exact kk H1 locs1 hW1 hS1
noncomputable def bX12_hour_1 (o_ : Nat) (v1 : Int32 × HP) : Option ((Int32 × HP) ⊕ (HP)) :=
  if (100 : Int32) ≤ v1.1 then (some (.inr v1.2)) else (wt_bd (hgA v1.2 o_ [9] 1) fun ad12 => wt_bd (hgA v1.2 o_ [9] 1) fun ad14 => wt_bd (haI v1.2 ad14 0) fun z16 => wt_ck (vp_in v1.1 z16.1) <| wt_bd (hgA v1.2 o_ [9] 0) fun ad19 => wt_bd (hgA v1.2 ad19 [1] 1) fun ad21 => wt_bd (haI v1.2 ad21 0) fun z23 => wt_ck (vp_in (v1.1 - v1.1 / (10 : Int32) * (10 : Int32)) z23.1) <| wt_bd (haI v1.2 ad12 0) fun z26 => wt_ck (vp_in v1.1 z26.1) <| wt_lt (hst v1.2 ad12 (.inl (0, z26.1, .inl (upd z26.2 v1.1.toNatClampNeg (((z16.2 v1.1.toNatClampNeg) * (z23.2 (v1.1 - v1.1 / (10 : Int32) * (10 : Int32)).toNatClampNeg)) / (16 : Int32)))))) fun τ29 => wt_lt (v1.1 + (1 : Int32)) fun n30 => some (.inl (n30, τ29)))
noncomputable def eX12_hour (τ : HP) (o_ : Nat) : Option (HP) :=
  wt_bd (wt_whC (bX12_hour_1 o_) ((0 : Int32), τ)) fun w2 => some w2
set_option maxHeartbeats 4000000 in
theorem wX12_hour (l : Launch) {G : HG} {A : Nat → Prop} {τ : HP} {o_ : Nat} {out_ : HP} (hd : eX12_hour τ o_ = some out_) : Met l yX12_hour (ws_ yX12_hour cX12_hour 2 none) ({ frames := 0, cells := 0, slots := 0, locals := 0 }) (hPc G A τ [.ref o_]) (hQv G out_ A) 0 0 A := by
  refine Met.ofW (cc := cX12_hour) (maxL := 2) (ret := none) (by decide) rfl ?_
  intro p_ e_ s_ m_ args_ below_ meth_ c_ s₁_ B hml hv
  obtain ⟨rfl, hW, hC⟩ := hv
  have hx := B.exec
  have hb := B.bytes
  have hr := B.returns
  have hts := atoms_spec (ws := (ws_ yX12_hour cX12_hour 2 none)) B.pre
  have hts : ∀ w ∈ lw_all, w.before _ s_ = true := fun w h => hts w (List.mem_cons_of_mem _ h)
  have hown : s_.vm.findClass RX12 = some m_.cls := findClass_of_methodNamed B.named
  have hlocks := B.notSynchronized
  have hK := hC.1
  have hT := hC.2.1
  have hL := hC.2.2.1
  have hZ := hC.2.2.2.2.1
  have hA := hC.2.2.2.2.2
  have hS : va_S A s_.heap s_.heap [] := va_S.rf
  have hl := lv_entry ([.ref o_]) (n := 2) (Nat.le_of_ble_eq_true rfl)
  rw [lg_entry_eq]
  generalize (lg_sl ([.ref o_]) ++ List.replicate (2 - (lg_sl ([.ref o_])).length) Slot.unset).toArray = ls at hl ⊢
  have hl : lv_has ls 2 [(0, .ref o_)] := hl
  unfold eX12_hour at hd
  refine lv_iconst (pc := 0) (v := 0) hx hb dX12_hour_0 (by decide) ?_
  refine lv_istore_n (pc := 1) (lv' := [(1, .int (0 : Int32)), (0, .ref o_)]) hx hb dX12_hour_1 rfl hl (by decide) rfl (fun ls hl => ?_)
  obtain ⟨w2, hL3, hq4⟩ := wt_bd_o hd
  have hX5 : ∀ w2_ : HP, w2_ = w2 → ∀ (H : Heap) (locs : List Loc) (ls : Array Slot), Hw G A w2_ H → va_S A s_.heap H locs → lv_has ls 2 [] → W p_ l e_ (headSpec (ws_ yX12_hour cX12_hour 2 none) ({ frames := 0, cells := 0, slots := 0, locals := 0 })).room s_ m_ ([.ref o_] : List Value).toArray below_ meth_ c_ H locs 0 0 (MQ below_ (hQv G out_ A) ([.ref o_] : List Value).toArray s_ 0 0 A) (F0 m_ 42 ls []) := by
    intro w2_ hw_
    have hd := hq4
    subst hw_
    clear hL3 hq4
    intro H locs ls hW hS hl
    exact hr_vret hx hb hr hlocks (Option.some.inj hd) hW hS dX12_hour_42 (Nat.le_of_ble_eq_true rfl) (Nat.le_of_ble_eq_true rfl)
  have hI10 : ∀ (k9 : Nat) (v1 : Int32 × HP), wt_wh (bX12_hour_1 o_) k9 v1 = some w2 → ∀ (H : Heap) (locs : List Loc) (ls : Array Slot), Hw G A v1.2 H → va_S A s_.heap H locs → lv_has ls 2 [(0, .ref o_), (1, .int v1.1)] → W p_ l e_ (headSpec (ws_ yX12_hour cX12_hour 2 none) ({ frames := 0, cells := 0, slots := 0, locals := 0 })).room s_ m_ ([.ref o_] : List Value).toArray below_ meth_ c_ H locs 0 0 (MQ below_ (hQv G out_ A) ([.ref o_] : List Value).toArray s_ 0 0 A) (F0 m_ 2 ls []) := by
    intro k9
    induction k9 with
    | zero => intro v1 hd; exact absurd hd wt_wh_z
    | succ k9 ih7 =>
      intro v1 hd
      intro H locs ls hW hS hl
      obtain ⟨r8, hd, hk6⟩ := wt_wh_o hd
      unfold bX12_hour_1 at hd
      refine lv_iload_n (pc := 2) hx hb dX12_hour_2 rfl (lv_at hl 1 rfl) ?_
      refine lv_bipush (pc := 3) (v := 100) hx hb dX12_hour_3 (by decide) ?_
      refine lv_icmp_ge (pc := 5) (tgt := 42) hx hb dX12_hour_5 (by decide) (fun c11 => ?_) (fun c11 => ?_)
      · have hd := wt_it hd c11
        exact hX5 v1.2 (wt_exit hd hk6) _ _ _ hW hS (lv_sub hl [] rfl)
      · have hd := wt_if hd c11
        refine lv_aload_n (pc := 8) hx hb dX12_hour_8 rfl (lv_at hl 0 rfl) ?_
        obtain ⟨ad12, h13, hd⟩ := wt_bd_o hd
        refine hr_get (pc := 9) hx hb hts hown hK hW (hgA_o h13) hf_9_1 (fun _ h => h) q1079 dX12_hour_9 ?_
        refine lv_iload_n (pc := 12) hx hb dX12_hour_12 rfl (lv_at hl 1 rfl) ?_
        refine lv_aload_n (pc := 13) hx hb dX12_hour_13 rfl (lv_at hl 0 rfl) ?_
        obtain ⟨ad14, h15, hd⟩ := wt_bd_o hd
        refine hr_get (pc := 14) hx hb hts hown hK hW (hgA_o h15) hf_9_1 (fun _ h => h) q1079 dX12_hour_14 ?_
        refine lv_iload_n (pc := 17) hx hb dX12_hour_17 rfl (lv_at hl 1 rfl) ?_
        obtain ⟨z16, h17, hd⟩ := wt_bd_o hd
        obtain ⟨h18, hd⟩ := wt_ck_o hd
        refine hr_iald (pc := 18) hx hb hK hW h17 h18 dX12_hour_18 ?_
        refine lv_aload_n (pc := 19) hx hb dX12_hour_19 rfl (lv_at hl 0 rfl) ?_
        obtain ⟨ad19, h20, hd⟩ := wt_bd_o hd
        refine hr_get (pc := 20) hx hb hts hown hK hW (hgA_o h20) hf_9_0 (fun _ h => h) q1077 dX12_hour_20 ?_
        obtain ⟨ad21, h22, hd⟩ := wt_bd_o hd
        refine hr_getN (pc := 23) hx hb hts hown hK hT hW (hgA_o h22) hf_1_1 (fun _ h => h) q123 dX12_hour_23 ?_
        refine lv_iload_n (pc := 26) hx hb dX12_hour_26 rfl (lv_at hl 1 rfl) ?_
        refine lv_bipush (pc := 27) (v := 10) hx hb dX12_hour_27 (by decide) ?_
        refine lv_irem (pc := 29) hx hb dX12_hour_29 (by decide) ?_
        obtain ⟨z23, h24, hd⟩ := wt_bd_o hd
        obtain ⟨h25, hd⟩ := wt_ck_o hd
        refine hr_iald (pc := 30) hx hb hK hW h24 h25 dX12_hour_30 ?_
        refine lv_imul (pc := 31) hx hb dX12_hour_31 ?_
        refine lv_bipush (pc := 32) (v := 16) hx hb dX12_hour_32 (by decide) ?_
        refine lv_idiv (pc := 34) hx hb dX12_hour_34 (by decide) ?_
        obtain ⟨z26, h27, hd⟩ := wt_bd_o hd
        obtain ⟨h28, hd⟩ := wt_ck_o hd
        obtain ⟨τ29, eτ29, hd⟩ := wt_lt_o hd
        refine hr_iast (pc := 35) hx hb hK hW hS h27 h28 eτ29 dX12_hour_35 (fun H locs hW hS => ?_)
        obtain ⟨n30, en30, hd⟩ := wt_lt_o hd
        refine lv_iinc (pc := 36) (k := 1) (v := n30) (lv' := [(1, .int n30), (0, .ref o_)]) hx hb dX12_hour_36 hl rfl en30.symm (by decide) rfl (fun ls hl => ?_)
        refine lv_goto (pc := 39) (tgt := 2) hx hb dX12_hour_39 (by decide) ?_
        exact ih7 _ (wt_again hd hk6) _ _ _ hW hS (lv_sub hl [1, 0] rfl)
  obtain ⟨k9, hL3⟩ := wt_whC_o hL3
  exact hI10 k9 _ hL3 _ _ _ hW hS (lv_sub hl [1, 0] rfl)
theorem kX12_hour {p : Program} {l : Launch} {e : Env} {R : Room} {s : State} {m : MethodId} {args : Array Value} {below : List Frame} {meth : Method} {c : Code} {H : Heap} {locs : List Loc} {cells slots : Nat} {Q : State → Prop} {cc : ByteArray} {pc : Nat} {ls : Array Slot} {rest : List Value} {nL : Nat} {own : String} {index : Nat} {G : HG} {A : Nat → Prop} {τ : HP} {o_ : Nat} {out_ : HP} (hx : p.tables.exec = Jvm.exec) (hb : c.code = cc) (hml : c.maxLocals = nL) (hown : s.vm.findClass own = some m.cls) (hts : ∀ w ∈ lw_all, w.before args s = true) (hC : Hcx G A s) (hW : Hw G A τ H) (hS : va_S A s.heap H locs) (hrc : hcl τ o_ = some 9) (hd : eX12_hour τ o_ = some out_) (hsz : ls.size = nL) (hrm : (rest.map fun v => v.category).sum ≤ 8) (hR : 1 ≤ R.frames ∧ 21 ≤ R.locals) (hcs : cells ≤ R.cells ∧ slots ≤ R.slots) (hlk : Cond.methodLink own index yX12_hour ∈ lw_all) (hdg : decode cc pc = .ok (.invokevirtual index, 3)) (kk : ∀ (H1 : Heap) (locs1 : List Loc), Hw G A out_ H1 → va_S A s.heap H1 locs1 → W p l e R s m args below meth c H1 locs1 cells slots Q (F0 m (pc + 3) ls (rest))) : W p l e R s m args below meth c H locs cells slots Q (F0 m pc ls (.ref o_ :: rest)) := by
  refine va_callv (va_runV (As := []) (rest := rest) ⟨hx, hb, hml, hown, hts⟩ (wX12_hour l hd) (cwV 0 hts (lw_V hlk q1092 q1093 q98 q1094) rfl rfl rfl (by decide +kernel) hR) (hr_preV hC hW hS hrc rfl rfl) rfl rfl hsz rfl (lv_room hrm) hdg hcs) hS (fun _ _ h => h) (fun _ h => h) (fun u t H1 locs1 ht hvm hp hB hz hk hS1 => ?_)
  have hW1 : Hw G A out_ t.heap := hB
  rw [ht] at hW1
  exact kk H1 locs1 hW1 hS1
noncomputable def eX12_shedBy (τ : HP) (o_ : Nat) (a0 : Int32) (a1 : Int32) : Option (Int32) :=
  wt_bd (hgA τ o_ [9] 2) fun ad1 => wt_bd (haI τ ad1 0) fun z3 => wt_ck (vp_in a0 z3.1) <| if (z3.2 a0.toNatClampNeg) = (-1 : Int32) then (some (0 : Int32)) else (wt_bd (hgA τ o_ [9] 0) fun ad7 => wt_bd (hgA τ ad7 [1] 0) fun ad9 => wt_bd (hgA τ o_ [9] 2) fun ad11 => wt_bd (haI τ ad11 0) fun z13 => wt_ck (vp_in a0 z13.1) <| wt_bd (haI τ ad9 0) fun z16 => wt_ck (vp_in (((10 : Int32) * (z13.2 a0.toNatClampNeg)) + a1) z16.1) <| some (z16.2 (((10 : Int32) * (z13.2 a0.toNatClampNeg)) + a1).toNatClampNeg))
set_option maxHeartbeats 4000000 in
theorem wX12_shedBy (l : Launch) {G : HG} {A : Nat → Prop} {τ : HP} {o_ : Nat} {a0 : Int32} {a1 : Int32} {out_ : Int32} (hd : eX12_shedBy τ o_ a0 a1 = some out_) : Met l yX12_shedBy (ws_ yX12_shedBy cX12_shedBy 3 (some .int)) ({ frames := 0, cells := 0, slots := 0, locals := 0 }) (hPc G A τ [.ref o_, .int a0, .int a1]) (hQi G out_ τ A) 0 0 A := by
  refine Met.ofW (cc := cX12_shedBy) (maxL := 3) (ret := (some .int)) (by decide) rfl ?_
  intro p_ e_ s_ m_ args_ below_ meth_ c_ s₁_ B hml hv
  obtain ⟨rfl, hW, hC⟩ := hv
  have hx := B.exec
  have hb := B.bytes
  have hr := B.returns
  have hts := atoms_spec (ws := (ws_ yX12_shedBy cX12_shedBy 3 (some .int))) B.pre
  have hts : ∀ w ∈ lw_all, w.before _ s_ = true := fun w h => hts w (List.mem_cons_of_mem _ h)
  have hown : s_.vm.findClass RX12 = some m_.cls := findClass_of_methodNamed B.named
  have hlocks := B.notSynchronized
  have hK := hC.1
  have hT := hC.2.1
  have hL := hC.2.2.1
  have hZ := hC.2.2.2.2.1
  have hA := hC.2.2.2.2.2
  have hS : va_S A s_.heap s_.heap [] := va_S.rf
  have hl := lv_entry ([.ref o_, .int a0, .int a1]) (n := 3) (Nat.le_of_ble_eq_true rfl)
  rw [lg_entry_eq]
  generalize (lg_sl ([.ref o_, .int a0, .int a1]) ++ List.replicate (3 - (lg_sl ([.ref o_, .int a0, .int a1])).length) Slot.unset).toArray = ls at hl ⊢
  have hl : lv_has ls 3 [(0, .ref o_), (1, .int a0), (2, .int a1)] := hl
  unfold eX12_shedBy at hd
  refine lv_aload_n (pc := 0) hx hb dX12_shedBy_0 rfl (lv_at hl 0 rfl) ?_
  obtain ⟨ad1, h2, hd⟩ := wt_bd_o hd
  refine hr_get (pc := 1) hx hb hts hown hK hW (hgA_o h2) hf_9_2 (fun _ h => h) q1081 dX12_shedBy_1 ?_
  refine lv_iload_n (pc := 4) hx hb dX12_shedBy_4 rfl (lv_at hl 1 rfl) ?_
  obtain ⟨z3, h4, hd⟩ := wt_bd_o hd
  obtain ⟨h5, hd⟩ := wt_ck_o hd
  refine hr_iald (pc := 5) hx hb hK hW h4 h5 dX12_shedBy_5 ?_
  refine lv_iconst (pc := 6) (v := -1) hx hb dX12_shedBy_6 (by decide) ?_
  refine lv_icmp_ne (pc := 7) (tgt := 14) hx hb dX12_shedBy_7 (by decide) (fun c6 => ?_) (fun c6 => ?_)
  · have hd := wt_if hd c6
    refine lv_aload_n (pc := 14) hx hb dX12_shedBy_14 rfl (lv_at hl 0 rfl) ?_
    obtain ⟨ad7, h8, hd⟩ := wt_bd_o hd
    refine hr_get (pc := 15) hx hb hts hown hK hW (hgA_o h8) hf_9_0 (fun _ h => h) q1077 dX12_shedBy_15 ?_
    obtain ⟨ad9, h10, hd⟩ := wt_bd_o hd
    refine hr_getN (pc := 18) hx hb hts hown hK hT hW (hgA_o h10) hf_1_0 (fun _ h => h) q119 dX12_shedBy_18 ?_
    refine lv_bipush (pc := 21) (v := 10) hx hb dX12_shedBy_21 (by decide) ?_
    refine lv_aload_n (pc := 23) hx hb dX12_shedBy_23 rfl (lv_at hl 0 rfl) ?_
    obtain ⟨ad11, h12, hd⟩ := wt_bd_o hd
    refine hr_get (pc := 24) hx hb hts hown hK hW (hgA_o h12) hf_9_2 (fun _ h => h) q1081 dX12_shedBy_24 ?_
    refine lv_iload_n (pc := 27) hx hb dX12_shedBy_27 rfl (lv_at hl 1 rfl) ?_
    obtain ⟨z13, h14, hd⟩ := wt_bd_o hd
    obtain ⟨h15, hd⟩ := wt_ck_o hd
    refine hr_iald (pc := 28) hx hb hK hW h14 h15 dX12_shedBy_28 ?_
    refine lv_imul (pc := 29) hx hb dX12_shedBy_29 ?_
    refine lv_iload_n (pc := 30) hx hb dX12_shedBy_30 rfl (lv_at hl 2 rfl) ?_
    refine lv_iadd (pc := 31) hx hb dX12_shedBy_31 ?_
    obtain ⟨z16, h17, hd⟩ := wt_bd_o hd
    obtain ⟨h18, hd⟩ := wt_ck_o hd
    refine hr_iald (pc := 32) hx hb hK hW h17 h18 dX12_shedBy_32 ?_
    exact hr_iret hx hb hr rfl hlocks (Option.some.inj hd) rfl hW hS dX12_shedBy_33 (Nat.le_of_ble_eq_true rfl) (Nat.le_of_ble_eq_true rfl)
  · have hd := wt_it hd c6
    refine lv_iconst (pc := 10) (v := 0) hx hb dX12_shedBy_10 (by decide) ?_
    refine lv_goto (pc := 11) (tgt := 33) hx hb dX12_shedBy_11 (by decide) ?_
    exact hr_iret hx hb hr rfl hlocks (Option.some.inj hd) rfl hW hS dX12_shedBy_33 (Nat.le_of_ble_eq_true rfl) (Nat.le_of_ble_eq_true rfl)
theorem kX12_shedBy {p : Program} {l : Launch} {e : Env} {R : Room} {s : State} {m : MethodId} {args : Array Value} {below : List Frame} {meth : Method} {c : Code} {H : Heap} {locs : List Loc} {cells slots : Nat} {Q : State → Prop} {cc : ByteArray} {pc : Nat} {ls : Array Slot} {rest : List Value} {nL : Nat} {own : String} {index : Nat} {G : HG} {A : Nat → Prop} {τ : HP} {o_ : Nat} {a0 : Int32} {a1 : Int32} {out_ : Int32} (hx : p.tables.exec = Jvm.exec) (hb : c.code = cc) (hml : c.maxLocals = nL) (hown : s.vm.findClass own = some m.cls) (hts : ∀ w ∈ lw_all, w.before args s = true) (hC : Hcx G A s) (hW : Hw G A τ H) (hS : va_S A s.heap H locs) (hrc : hcl τ o_ = some 9) (hd : eX12_shedBy τ o_ a0 a1 = some out_) (hsz : ls.size = nL) (hrm : (rest.map fun v => v.category).sum ≤ 8) (hR : 1 ≤ R.frames ∧ 22 ≤ R.locals) (hcs : cells ≤ R.cells ∧ slots ≤ R.slots) (hlk : Cond.methodLink own index yX12_shedBy ∈ lw_all) (hdg : decode cc pc = .ok (.invokevirtual index, 3)) (kk : ∀ (H1 : Heap) (locs1 : List Loc), Hw G A τ H1 → va_S A s.heap H1 locs1 → W p l e R s m args below meth c H1 locs1 cells slots Q (F0 m (pc + 3) ls (.int out_ :: rest))) : W p l e R s m args below meth c H locs cells slots Q (F0 m pc ls (.int a1 :: .int a0 :: .ref o_ :: rest)) := by
  refine va_calli (va_runV (As := [.int a0, .int a1]) (rest := rest) ⟨hx, hb, hml, hown, hts⟩ (wX12_shedBy l hd) (cwV 2 hts (lw_V hlk q1130 q1131 q98 q1132) rfl rfl rfl (by decide +kernel) hR) (hr_preV hC hW hS hrc rfl rfl) rfl rfl hsz rfl (lv_room hrm) hdg hcs) hS (fun _ _ h => h) (fun _ h => h) (fun r u t H1 locs1 ht hvm hp hB hz hk hS1 => ?_)
  have hp : r = out_ := hp
  subst hp
  have hW1 : Hw G A τ t.heap := hB
  rw [ht] at hW1
  exact kk H1 locs1 hW1 hS1
noncomputable def bX12_touch_1 (o_ : Nat) (a0 : Int32) (a1 : Int32) (v1 : Int32 × HP) : Option ((Int32 × HP) ⊕ (HP)) :=
  if (10 : Int32) ≤ v1.1 then (some (.inr v1.2)) else (wt_bd (hgA v1.2 o_ [9] 1) fun ad12 => wt_bd (haI v1.2 ad12 0) fun z14 => wt_ck (vp_in (((10 : Int32) * a0) + v1.1) z14.1) <| wt_lt ((z14.2 (((10 : Int32) * a0) + v1.1).toNatClampNeg)) fun n17 => wt_bd (hgA v1.2 o_ [9] 1) fun ad18 => wt_bd (haI v1.2 ad18 0) fun z20 => wt_ck (vp_in (((10 : Int32) * a1) + v1.1) z20.1) <| wt_lt ((z20.2 (((10 : Int32) * a1) + v1.1).toNatClampNeg)) fun n23 => wt_bd (hgA v1.2 o_ [9] 0) fun ad24 => wt_bd (hgI v1.2 ad24 [1] 5) fun f26 => wt_lt (((n17 * f26) / (16 : Int32))) fun n28 => wt_bd (hgA v1.2 o_ [9] 0) fun ad29 => wt_bd (hgI v1.2 ad29 [1] 5) fun f31 => wt_lt (((n23 * f31) / (16 : Int32))) fun n33 => wt_bd (hgA v1.2 o_ [9] 1) fun ad34 => wt_ck (hcl v1.2 o_ = some 9) <| wt_bd (eX12_shedBy v1.2 o_ a1 v1.1) fun w37 => wt_bd (haI v1.2 ad34 0) fun z39 => wt_ck (vp_in (((10 : Int32) * a0) + v1.1) z39.1) <| wt_lt (hst v1.2 ad34 (.inl (0, z39.1, .inl (upd z39.2 (((10 : Int32) * a0) + v1.1).toNatClampNeg (wt_min (9999 : Int32) (((n17 - n28) + n33) + w37)))))) fun τ42 => wt_bd (hgA τ42 o_ [9] 1) fun ad43 => wt_ck (hcl τ42 o_ = some 9) <| wt_bd (eX12_shedBy τ42 o_ a0 v1.1) fun w46 => wt_bd (haI τ42 ad43 0) fun z48 => wt_ck (vp_in (((10 : Int32) * a1) + v1.1) z48.1) <| wt_lt (hst τ42 ad43 (.inl (0, z48.1, .inl (upd z48.2 (((10 : Int32) * a1) + v1.1).toNatClampNeg (wt_min (9999 : Int32) (((n23 - n33) + n28) + w46)))))) fun τ51 => wt_lt (v1.1 + (1 : Int32)) fun n52 => some (.inl (n52, τ51)))
noncomputable def eX12_touch (τ : HP) (o_ : Nat) (a0 : Int32) (a1 : Int32) : Option (HP) :=
  wt_bd (wt_whC (bX12_touch_1 o_ a0 a1) ((0 : Int32), τ)) fun w2 => some w2
set_option maxHeartbeats 4000000 in
theorem wX12_touch (l : Launch) {G : HG} {A : Nat → Prop} {τ : HP} {o_ : Nat} {a0 : Int32} {a1 : Int32} {out_ : HP} (hd : eX12_touch τ o_ a0 a1 = some out_) : Met l yX12_touch (ws_ yX12_touch cX12_touch 8 none) ({ frames := 1, cells := 0, slots := 0, locals := 32 }) (hPc G A τ [.ref o_, .int a0, .int a1]) (hQv G out_ A) 0 0 A := by
  refine Met.ofW (cc := cX12_touch) (maxL := 8) (ret := none) (by decide) rfl ?_
  intro p_ e_ s_ m_ args_ below_ meth_ c_ s₁_ B hml hv
  obtain ⟨rfl, hW, hC⟩ := hv
  have hx := B.exec
  have hb := B.bytes
  have hr := B.returns
  have hts := atoms_spec (ws := (ws_ yX12_touch cX12_touch 8 none)) B.pre
  have hts : ∀ w ∈ lw_all, w.before _ s_ = true := fun w h => hts w (List.mem_cons_of_mem _ h)
  have hown : s_.vm.findClass RX12 = some m_.cls := findClass_of_methodNamed B.named
  have hlocks := B.notSynchronized
  have hK := hC.1
  have hT := hC.2.1
  have hL := hC.2.2.1
  have hZ := hC.2.2.2.2.1
  have hA := hC.2.2.2.2.2
  have hS : va_S A s_.heap s_.heap [] := va_S.rf
  have hl := lv_entry ([.ref o_, .int a0, .int a1]) (n := 8) (Nat.le_of_ble_eq_true rfl)
  rw [lg_entry_eq]
  generalize (lg_sl ([.ref o_, .int a0, .int a1]) ++ List.replicate (8 - (lg_sl ([.ref o_, .int a0, .int a1])).length) Slot.unset).toArray = ls at hl ⊢
  have hl : lv_has ls 8 [(0, .ref o_), (1, .int a0), (2, .int a1)] := hl
  unfold eX12_touch at hd
  refine lv_iconst (pc := 0) (v := 0) hx hb dX12_touch_0 (by decide) ?_
  refine lv_istore_n (pc := 1) (lv' := [(3, .int (0 : Int32)), (0, .ref o_), (1, .int a0), (2, .int a1)]) hx hb dX12_touch_1 rfl hl (by decide) rfl (fun ls hl => ?_)
  obtain ⟨w2, hL3, hq4⟩ := wt_bd_o hd
  have hX5 : ∀ w2_ : HP, w2_ = w2 → ∀ (H : Heap) (locs : List Loc) (ls : Array Slot), Hw G A w2_ H → va_S A s_.heap H locs → lv_has ls 8 [] → W p_ l e_ (headSpec (ws_ yX12_touch cX12_touch 8 none) ({ frames := 1, cells := 0, slots := 0, locals := 32 })).room s_ m_ ([.ref o_, .int a0, .int a1] : List Value).toArray below_ meth_ c_ H locs 0 0 (MQ below_ (hQv G out_ A) ([.ref o_, .int a0, .int a1] : List Value).toArray s_ 0 0 A) (F0 m_ 134 ls []) := by
    intro w2_ hw_
    have hd := hq4
    subst hw_
    clear hL3 hq4
    intro H locs ls hW hS hl
    exact hr_vret hx hb hr hlocks (Option.some.inj hd) hW hS dX12_touch_134 (Nat.le_of_ble_eq_true rfl) (Nat.le_of_ble_eq_true rfl)
  have hI10 : ∀ (k9 : Nat) (v1 : Int32 × HP), wt_wh (bX12_touch_1 o_ a0 a1) k9 v1 = some w2 → ∀ (H : Heap) (locs : List Loc) (ls : Array Slot), Hw G A v1.2 H → va_S A s_.heap H locs → lv_has ls 8 [(0, .ref o_), (1, .int a0), (2, .int a1), (3, .int v1.1)] → W p_ l e_ (headSpec (ws_ yX12_touch cX12_touch 8 none) ({ frames := 1, cells := 0, slots := 0, locals := 32 })).room s_ m_ ([.ref o_, .int a0, .int a1] : List Value).toArray below_ meth_ c_ H locs 0 0 (MQ below_ (hQv G out_ A) ([.ref o_, .int a0, .int a1] : List Value).toArray s_ 0 0 A) (F0 m_ 2 ls []) := by
    intro k9
    induction k9 with
    | zero => intro v1 hd; exact absurd hd wt_wh_z
    | succ k9 ih7 =>
      intro v1 hd
      intro H locs ls hW hS hl
      obtain ⟨r8, hd, hk6⟩ := wt_wh_o hd
      unfold bX12_touch_1 at hd
      refine lv_iload_n (pc := 2) hx hb dX12_touch_2 rfl (lv_at hl 3 rfl) ?_
      refine lv_bipush (pc := 3) (v := 10) hx hb dX12_touch_3 (by decide) ?_
      refine lv_icmp_ge (pc := 5) (tgt := 134) hx hb dX12_touch_5 (by decide) (fun c11 => ?_) (fun c11 => ?_)
      · have hd := wt_it hd c11
        exact hX5 v1.2 (wt_exit hd hk6) _ _ _ hW hS (lv_sub hl [] rfl)
      · have hd := wt_if hd c11
        refine lv_aload_n (pc := 8) hx hb dX12_touch_8 rfl (lv_at hl 0 rfl) ?_
        obtain ⟨ad12, h13, hd⟩ := wt_bd_o hd
        refine hr_get (pc := 9) hx hb hts hown hK hW (hgA_o h13) hf_9_1 (fun _ h => h) q1079 dX12_touch_9 ?_
        refine lv_bipush (pc := 12) (v := 10) hx hb dX12_touch_12 (by decide) ?_
        refine lv_iload_n (pc := 14) hx hb dX12_touch_14 rfl (lv_at hl 1 rfl) ?_
        refine lv_imul (pc := 15) hx hb dX12_touch_15 ?_
        refine lv_iload_n (pc := 16) hx hb dX12_touch_16 rfl (lv_at hl 3 rfl) ?_
        refine lv_iadd (pc := 17) hx hb dX12_touch_17 ?_
        obtain ⟨z14, h15, hd⟩ := wt_bd_o hd
        obtain ⟨h16, hd⟩ := wt_ck_o hd
        refine hr_iald (pc := 18) hx hb hK hW h15 h16 dX12_touch_18 ?_
        obtain ⟨n17, en17, hd⟩ := wt_lt_o hd
        refine lv_tope en17 ?_
        refine lv_istore (pc := 19) (lv' := [(4, .int n17), (0, .ref o_), (1, .int a0), (2, .int a1), (3, .int v1.1)]) hx hb dX12_touch_19 hl (by decide) rfl (fun ls hl => ?_)
        refine lv_aload_n (pc := 21) hx hb dX12_touch_21 rfl (lv_at hl 1 rfl) ?_
        obtain ⟨ad18, h19, hd⟩ := wt_bd_o hd
        refine hr_get (pc := 22) hx hb hts hown hK hW (hgA_o h19) hf_9_1 (fun _ h => h) q1079 dX12_touch_22 ?_
        refine lv_bipush (pc := 25) (v := 10) hx hb dX12_touch_25 (by decide) ?_
        refine lv_iload_n (pc := 27) hx hb dX12_touch_27 rfl (lv_at hl 3 rfl) ?_
        refine lv_imul (pc := 28) hx hb dX12_touch_28 ?_
        refine lv_iload_n (pc := 29) hx hb dX12_touch_29 rfl (lv_at hl 4 rfl) ?_
        refine lv_iadd (pc := 30) hx hb dX12_touch_30 ?_
        obtain ⟨z20, h21, hd⟩ := wt_bd_o hd
        obtain ⟨h22, hd⟩ := wt_ck_o hd
        refine hr_iald (pc := 31) hx hb hK hW h21 h22 dX12_touch_31 ?_
        obtain ⟨n23, en23, hd⟩ := wt_lt_o hd
        refine lv_tope en23 ?_
        refine lv_istore (pc := 32) (lv' := [(5, .int n23), (4, .int n17), (0, .ref o_), (1, .int a0), (2, .int a1), (3, .int v1.1)]) hx hb dX12_touch_32 hl (by decide) rfl (fun ls hl => ?_)
        refine lv_iload (pc := 34) hx hb dX12_touch_34 (lv_at hl 1 rfl) ?_
        refine lv_aload_n (pc := 36) hx hb dX12_touch_36 rfl (lv_at hl 2 rfl) ?_
        obtain ⟨ad24, h25, hd⟩ := wt_bd_o hd
        refine hr_get (pc := 37) hx hb hts hown hK hW (hgA_o h25) hf_9_0 (fun _ h => h) q1077 dX12_touch_37 ?_
        obtain ⟨f26, h27, hd⟩ := wt_bd_o hd
        refine hr_getN (pc := 40) hx hb hts hown hK hT hW (hgI_o h27) hf_1_5 (fun _ h => h) q136 dX12_touch_40 ?_
        refine lv_imul (pc := 43) hx hb dX12_touch_43 ?_
        refine lv_bipush (pc := 44) (v := 16) hx hb dX12_touch_44 (by decide) ?_
        refine lv_idiv (pc := 46) hx hb dX12_touch_46 (by decide) ?_
        obtain ⟨n28, en28, hd⟩ := wt_lt_o hd
        refine lv_tope en28 ?_
        refine lv_istore (pc := 47) (lv' := [(6, .int n28), (5, .int n23), (4, .int n17), (0, .ref o_), (1, .int a0), (2, .int a1), (3, .int v1.1)]) hx hb dX12_touch_47 hl (by decide) rfl (fun ls hl => ?_)
        refine lv_iload (pc := 49) hx hb dX12_touch_49 (lv_at hl 1 rfl) ?_
        refine lv_aload_n (pc := 51) hx hb dX12_touch_51 rfl (lv_at hl 3 rfl) ?_
        obtain ⟨ad29, h30, hd⟩ := wt_bd_o hd
        refine hr_get (pc := 52) hx hb hts hown hK hW (hgA_o h30) hf_9_0 (fun _ h => h) q1077 dX12_touch_52 ?_
        obtain ⟨f31, h32, hd⟩ := wt_bd_o hd
        refine hr_getN (pc := 55) hx hb hts hown hK hT hW (hgI_o h32) hf_1_5 (fun _ h => h) q136 dX12_touch_55 ?_
        refine lv_imul (pc := 58) hx hb dX12_touch_58 ?_
        refine lv_bipush (pc := 59) (v := 16) hx hb dX12_touch_59 (by decide) ?_
        refine lv_idiv (pc := 61) hx hb dX12_touch_61 (by decide) ?_
        obtain ⟨n33, en33, hd⟩ := wt_lt_o hd
        refine lv_tope en33 ?_
        refine lv_istore (pc := 62) (lv' := [(7, .int n33), (6, .int n28), (5, .int n23), (4, .int n17), (0, .ref o_), (1, .int a0), (2, .int a1), (3, .int v1.1)]) hx hb dX12_touch_62 hl (by decide) rfl (fun ls hl => ?_)
        refine lv_aload_n (pc := 64) hx hb dX12_touch_64 rfl (lv_at hl 4 rfl) ?_
        obtain ⟨ad34, h35, hd⟩ := wt_bd_o hd
        refine hr_get (pc := 65) hx hb hts hown hK hW (hgA_o h35) hf_9_1 (fun _ h => h) q1079 dX12_touch_65 ?_
        refine lv_bipush (pc := 68) (v := 10) hx hb dX12_touch_68 (by decide) ?_
        refine lv_iload_n (pc := 70) hx hb dX12_touch_70 rfl (lv_at hl 5 rfl) ?_
        refine lv_imul (pc := 71) hx hb dX12_touch_71 ?_
        refine lv_iload_n (pc := 72) hx hb dX12_touch_72 rfl (lv_at hl 7 rfl) ?_
        refine lv_iadd (pc := 73) hx hb dX12_touch_73 ?_
        refine lv_sipush (pc := 74) (v := 9999) hx hb dX12_touch_74 (by decide) ?_
        refine lv_iload (pc := 77) hx hb dX12_touch_77 (lv_at hl 3 rfl) ?_
        refine lv_iload (pc := 79) hx hb dX12_touch_79 (lv_at hl 1 rfl) ?_
        refine lv_isub (pc := 81) hx hb dX12_touch_81 ?_
        refine lv_iload (pc := 82) hx hb dX12_touch_82 (lv_at hl 0 rfl) ?_
        refine lv_iadd (pc := 84) hx hb dX12_touch_84 ?_
        refine lv_aload_n (pc := 85) hx hb dX12_touch_85 rfl (lv_at hl 4 rfl) ?_
        refine lv_iload_n (pc := 86) hx hb dX12_touch_86 rfl (lv_at hl 6 rfl) ?_
        refine lv_iload_n (pc := 87) hx hb dX12_touch_87 rfl (lv_at hl 7 rfl) ?_
        obtain ⟨h36, hd⟩ := wt_ck_o hd
        obtain ⟨w37, hc38, hd⟩ := wt_bd_o hd
        refine kX12_shedBy (pc := 88) hx hb hml hown hts hC hW hS h36 hc38 hl.1 (Nat.le_of_ble_eq_true rfl) ⟨Nat.le_of_ble_eq_true rfl, Nat.le_of_ble_eq_true rfl⟩ ⟨Nat.le_of_ble_eq_true rfl, Nat.le_of_ble_eq_true rfl⟩ q1129 dX12_touch_88 (fun H locs hW hS => ?_)
        refine lv_iadd (pc := 91) hx hb dX12_touch_91 ?_
        refine va_mmin (pc := 92) hx hb (hml.trans hl.1.symm) hown (hts _ q1133) (hts _ q302) (hts _ q81) (hts _ q303) (Nat.le_of_ble_eq_true rfl) (Nat.le_of_ble_eq_true rfl) (Nat.le_of_ble_eq_true rfl) (Nat.le_of_ble_eq_true rfl) dX12_touch_92 ?_
        obtain ⟨z39, h40, hd⟩ := wt_bd_o hd
        obtain ⟨h41, hd⟩ := wt_ck_o hd
        obtain ⟨τ42, eτ42, hd⟩ := wt_lt_o hd
        refine hr_iast (pc := 95) hx hb hK hW hS h40 h41 eτ42 dX12_touch_95 (fun H locs hW hS => ?_)
        refine lv_aload_n (pc := 96) hx hb dX12_touch_96 rfl (lv_at hl 4 rfl) ?_
        obtain ⟨ad43, h44, hd⟩ := wt_bd_o hd
        refine hr_get (pc := 97) hx hb hts hown hK hW (hgA_o h44) hf_9_1 (fun _ h => h) q1079 dX12_touch_97 ?_
        refine lv_bipush (pc := 100) (v := 10) hx hb dX12_touch_100 (by decide) ?_
        refine lv_iload_n (pc := 102) hx hb dX12_touch_102 rfl (lv_at hl 6 rfl) ?_
        refine lv_imul (pc := 103) hx hb dX12_touch_103 ?_
        refine lv_iload_n (pc := 104) hx hb dX12_touch_104 rfl (lv_at hl 7 rfl) ?_
        refine lv_iadd (pc := 105) hx hb dX12_touch_105 ?_
        refine lv_sipush (pc := 106) (v := 9999) hx hb dX12_touch_106 (by decide) ?_
        refine lv_iload (pc := 109) hx hb dX12_touch_109 (lv_at hl 2 rfl) ?_
        refine lv_iload (pc := 111) hx hb dX12_touch_111 (lv_at hl 0 rfl) ?_
        refine lv_isub (pc := 113) hx hb dX12_touch_113 ?_
        refine lv_iload (pc := 114) hx hb dX12_touch_114 (lv_at hl 1 rfl) ?_
        refine lv_iadd (pc := 116) hx hb dX12_touch_116 ?_
        refine lv_aload_n (pc := 117) hx hb dX12_touch_117 rfl (lv_at hl 4 rfl) ?_
        refine lv_iload_n (pc := 118) hx hb dX12_touch_118 rfl (lv_at hl 5 rfl) ?_
        refine lv_iload_n (pc := 119) hx hb dX12_touch_119 rfl (lv_at hl 7 rfl) ?_
        obtain ⟨h45, hd⟩ := wt_ck_o hd
        obtain ⟨w46, hc47, hd⟩ := wt_bd_o hd
        refine kX12_shedBy (pc := 120) hx hb hml hown hts hC hW hS h45 hc47 hl.1 (Nat.le_of_ble_eq_true rfl) ⟨Nat.le_of_ble_eq_true rfl, Nat.le_of_ble_eq_true rfl⟩ ⟨Nat.le_of_ble_eq_true rfl, Nat.le_of_ble_eq_true rfl⟩ q1129 dX12_touch_120 (fun H locs hW hS => ?_)
        refine lv_iadd (pc := 123) hx hb dX12_touch_123 ?_
        refine va_mmin (pc := 124) hx hb (hml.trans hl.1.symm) hown (hts _ q1133) (hts _ q302) (hts _ q81) (hts _ q303) (Nat.le_of_ble_eq_true rfl) (Nat.le_of_ble_eq_true rfl) (Nat.le_of_ble_eq_true rfl) (Nat.le_of_ble_eq_true rfl) dX12_touch_124 ?_
        obtain ⟨z48, h49, hd⟩ := wt_bd_o hd
        obtain ⟨h50, hd⟩ := wt_ck_o hd
        obtain ⟨τ51, eτ51, hd⟩ := wt_lt_o hd
        refine hr_iast (pc := 127) hx hb hK hW hS h49 h50 eτ51 dX12_touch_127 (fun H locs hW hS => ?_)
        obtain ⟨n52, en52, hd⟩ := wt_lt_o hd
        refine lv_iinc (pc := 128) (k := 7) (v := n52) (lv' := [(3, .int n52), (7, .int n33), (6, .int n28), (5, .int n23), (4, .int n17), (0, .ref o_), (1, .int a0), (2, .int a1)]) hx hb dX12_touch_128 hl rfl en52.symm (by decide) rfl (fun ls hl => ?_)
        refine lv_goto (pc := 131) (tgt := 2) hx hb dX12_touch_131 (by decide) ?_
        exact ih7 _ (wt_again hd hk6) _ _ _ hW hS (lv_sub hl [5, 6, 7, 0] rfl)
  obtain ⟨k9, hL3⟩ := wt_whC_o hL3
  exact hI10 k9 _ hL3 _ _ _ hW hS (lv_sub hl [1, 2, 3, 0] rfl)
theorem kX12_touch {p : Program} {l : Launch} {e : Env} {R : Room} {s : State} {m : MethodId} {args : Array Value} {below : List Frame} {meth : Method} {c : Code} {H : Heap} {locs : List Loc} {cells slots : Nat} {Q : State → Prop} {cc : ByteArray} {pc : Nat} {ls : Array Slot} {rest : List Value} {nL : Nat} {own : String} {index : Nat} {G : HG} {A : Nat → Prop} {τ : HP} {o_ : Nat} {a0 : Int32} {a1 : Int32} {out_ : HP} (hx : p.tables.exec = Jvm.exec) (hb : c.code = cc) (hml : c.maxLocals = nL) (hown : s.vm.findClass own = some m.cls) (hts : ∀ w ∈ lw_all, w.before args s = true) (hC : Hcx G A s) (hW : Hw G A τ H) (hS : va_S A s.heap H locs) (hrc : hcl τ o_ = some 9) (hd : eX12_touch τ o_ a0 a1 = some out_) (hsz : ls.size = nL) (hrm : (rest.map fun v => v.category).sum ≤ 8) (hR : 2 ≤ R.frames ∧ 59 ≤ R.locals) (hcs : cells ≤ R.cells ∧ slots ≤ R.slots) (hlk : Cond.methodLink own index yX12_touch ∈ lw_all) (hdg : decode cc pc = .ok (.invokevirtual index, 3)) (kk : ∀ (H1 : Heap) (locs1 : List Loc), Hw G A out_ H1 → va_S A s.heap H1 locs1 → W p l e R s m args below meth c H1 locs1 cells slots Q (F0 m (pc + 3) ls (rest))) : W p l e R s m args below meth c H locs cells slots Q (F0 m pc ls (.int a1 :: .int a0 :: .ref o_ :: rest)) := by
  refine va_callv (va_runV (As := [.int a0, .int a1]) (rest := rest) ⟨hx, hb, hml, hown, hts⟩ (wX12_touch l hd) (cwV 2 hts (lw_V hlk q1126 q1127 q98 q1128) rfl rfl rfl (by decide +kernel) hR) (hr_preV hC hW hS hrc rfl rfl) rfl rfl hsz rfl (lv_room hrm) hdg hcs) hS (fun _ _ h => h) (fun _ h => h) (fun u t H1 locs1 ht hvm hp hB hz hk hS1 => ?_)
  have hW1 : Hw G A out_ t.heap := hB
  rw [ht] at hW1
  exact kk H1 locs1 hW1 hS1
noncomputable def bX12_pile_1 (τ : HP) (o_ : Nat) (a0 : Int32) (a1 : Int32) (v1 : Int32 × Int32) : Option ((Int32 × Int32) ⊕ (Int32)) :=
  if (10 : Int32) ≤ v1.2 then (some (.inr v1.1)) else (wt_bd (hgA τ o_ [9] 0) fun ad12 => wt_bd (hgA τ ad12 [1] 3) fun ad14 => wt_bd (haI τ ad14 0) fun z16 => wt_ck (vp_in a1 z16.1) <| if (((z16.2 a1.toNatClampNeg) >>> (v1.2 &&& 31)) &&& (1 : Int32)) = (1 : Int32) then (wt_bd (hgA τ o_ [9] 1) fun ad21 => wt_bd (haI τ ad21 0) fun z23 => wt_ck (vp_in (((10 : Int32) * a0) + v1.2) z23.1) <| wt_bd (hgA τ o_ [9] 0) fun ad26 => wt_bd (hgA τ ad26 [1] 2) fun ad28 => wt_bd (haI τ ad28 0) fun z30 => wt_ck (vp_in v1.2 z30.1) <| wt_lt ((v1.1 + ((z23.2 (((10 : Int32) * a0) + v1.2).toNatClampNeg) + (z30.2 v1.2.toNatClampNeg)))) fun n33 => wt_lt (v1.2 + (1 : Int32)) fun n34 => some (.inl (n33, n34))) else (wt_lt (v1.2 + (1 : Int32)) fun n20 => some (.inl (v1.1, n20))))
noncomputable def eX12_pile (τ : HP) (o_ : Nat) (a0 : Int32) (a1 : Int32) : Option (Int32) :=
  wt_bd (wt_whC (bX12_pile_1 τ o_ a0 a1) ((0 : Int32), (0 : Int32))) fun w2 => some (wt_min (60 : Int32) w2)
set_option maxHeartbeats 4000000 in
theorem wX12_pile (l : Launch) {G : HG} {A : Nat → Prop} {τ : HP} {o_ : Nat} {a0 : Int32} {a1 : Int32} {out_ : Int32} (hd : eX12_pile τ o_ a0 a1 = some out_) : Met l yX12_pile (ws_ yX12_pile cX12_pile 5 (some .int)) ({ frames := 1, cells := 0, slots := 0, locals := 32 }) (hPc G A τ [.ref o_, .int a0, .int a1]) (hQi G out_ τ A) 0 0 A := by
  refine Met.ofW (cc := cX12_pile) (maxL := 5) (ret := (some .int)) (by decide) rfl ?_
  intro p_ e_ s_ m_ args_ below_ meth_ c_ s₁_ B hml hv
  obtain ⟨rfl, hW, hC⟩ := hv
  have hx := B.exec
  have hb := B.bytes
  have hr := B.returns
  have hts := atoms_spec (ws := (ws_ yX12_pile cX12_pile 5 (some .int))) B.pre
  have hts : ∀ w ∈ lw_all, w.before _ s_ = true := fun w h => hts w (List.mem_cons_of_mem _ h)
  have hown : s_.vm.findClass RX12 = some m_.cls := findClass_of_methodNamed B.named
  have hlocks := B.notSynchronized
  have hK := hC.1
  have hT := hC.2.1
  have hL := hC.2.2.1
  have hZ := hC.2.2.2.2.1
  have hA := hC.2.2.2.2.2
  have hS : va_S A s_.heap s_.heap [] := va_S.rf
  have hl := lv_entry ([.ref o_, .int a0, .int a1]) (n := 5) (Nat.le_of_ble_eq_true rfl)
  rw [lg_entry_eq]
  generalize (lg_sl ([.ref o_, .int a0, .int a1]) ++ List.replicate (5 - (lg_sl ([.ref o_, .int a0, .int a1])).length) Slot.unset).toArray = ls at hl ⊢
  have hl : lv_has ls 5 [(0, .ref o_), (1, .int a0), (2, .int a1)] := hl
  unfold eX12_pile at hd
  refine lv_iconst (pc := 0) (v := 0) hx hb dX12_pile_0 (by decide) ?_
  refine lv_istore_n (pc := 1) (lv' := [(3, .int (0 : Int32)), (0, .ref o_), (1, .int a0), (2, .int a1)]) hx hb dX12_pile_1 rfl hl (by decide) rfl (fun ls hl => ?_)
  refine lv_iconst (pc := 2) (v := 0) hx hb dX12_pile_2 (by decide) ?_
  refine lv_istore (pc := 3) (lv' := [(4, .int (0 : Int32)), (3, .int (0 : Int32)), (0, .ref o_), (1, .int a0), (2, .int a1)]) hx hb dX12_pile_3 hl (by decide) rfl (fun ls hl => ?_)
  obtain ⟨w2, hL3, hq4⟩ := wt_bd_o hd
  have hX5 : ∀ w2_ : Int32, w2_ = w2 → ∀ (H : Heap) (locs : List Loc) (ls : Array Slot), Hw G A τ H → va_S A s_.heap H locs → lv_has ls 5 [(3, .int w2_)] → W p_ l e_ (headSpec (ws_ yX12_pile cX12_pile 5 (some .int)) ({ frames := 1, cells := 0, slots := 0, locals := 32 })).room s_ m_ ([.ref o_, .int a0, .int a1] : List Value).toArray below_ meth_ c_ H locs 0 0 (MQ below_ (hQi G out_ τ A) ([.ref o_, .int a0, .int a1] : List Value).toArray s_ 0 0 A) (F0 m_ 62 ls []) := by
    intro w2_ hw_
    have hd := hq4
    subst hw_
    clear hL3 hq4
    intro H locs ls hW hS hl
    refine lv_bipush (pc := 62) (v := 60) hx hb dX12_pile_62 (by decide) ?_
    refine lv_iload_n (pc := 64) hx hb dX12_pile_64 rfl (lv_at hl 0 rfl) ?_
    refine va_mmin (pc := 65) hx hb (hml.trans hl.1.symm) hown (hts _ q1133) (hts _ q302) (hts _ q81) (hts _ q303) (Nat.le_of_ble_eq_true rfl) (Nat.le_of_ble_eq_true rfl) (Nat.le_of_ble_eq_true rfl) (Nat.le_of_ble_eq_true rfl) dX12_pile_65 ?_
    exact hr_iret hx hb hr rfl hlocks (Option.some.inj hd) rfl hW hS dX12_pile_68 (Nat.le_of_ble_eq_true rfl) (Nat.le_of_ble_eq_true rfl)
  have hI10 : ∀ (k9 : Nat) (v1 : Int32 × Int32), wt_wh (bX12_pile_1 τ o_ a0 a1) k9 v1 = some w2 → ∀ (H : Heap) (locs : List Loc) (ls : Array Slot), Hw G A τ H → va_S A s_.heap H locs → lv_has ls 5 [(0, .ref o_), (1, .int a0), (2, .int a1), (3, .int v1.1), (4, .int v1.2)] → W p_ l e_ (headSpec (ws_ yX12_pile cX12_pile 5 (some .int)) ({ frames := 1, cells := 0, slots := 0, locals := 32 })).room s_ m_ ([.ref o_, .int a0, .int a1] : List Value).toArray below_ meth_ c_ H locs 0 0 (MQ below_ (hQi G out_ τ A) ([.ref o_, .int a0, .int a1] : List Value).toArray s_ 0 0 A) (F0 m_ 5 ls []) := by
    intro k9
    induction k9 with
    | zero => intro v1 hd; exact absurd hd wt_wh_z
    | succ k9 ih7 =>
      intro v1 hd
      intro H locs ls hW hS hl
      obtain ⟨r8, hd, hk6⟩ := wt_wh_o hd
      unfold bX12_pile_1 at hd
      refine lv_iload (pc := 5) hx hb dX12_pile_5 (lv_at hl 4 rfl) ?_
      refine lv_bipush (pc := 7) (v := 10) hx hb dX12_pile_7 (by decide) ?_
      refine lv_icmp_ge (pc := 9) (tgt := 62) hx hb dX12_pile_9 (by decide) (fun c11 => ?_) (fun c11 => ?_)
      · have hd := wt_it hd c11
        exact hX5 v1.1 (wt_exit hd hk6) _ _ _ hW hS (lv_sub hl [3] rfl)
      · have hd := wt_if hd c11
        refine lv_aload_n (pc := 12) hx hb dX12_pile_12 rfl (lv_at hl 0 rfl) ?_
        obtain ⟨ad12, h13, hd⟩ := wt_bd_o hd
        refine hr_get (pc := 13) hx hb hts hown hK hW (hgA_o h13) hf_9_0 (fun _ h => h) q1077 dX12_pile_13 ?_
        obtain ⟨ad14, h15, hd⟩ := wt_bd_o hd
        refine hr_getN (pc := 16) hx hb hts hown hK hT hW (hgA_o h15) hf_1_3 (fun _ h => h) q131 dX12_pile_16 ?_
        refine lv_iload_n (pc := 19) hx hb dX12_pile_19 rfl (lv_at hl 2 rfl) ?_
        obtain ⟨z16, h17, hd⟩ := wt_bd_o hd
        obtain ⟨h18, hd⟩ := wt_ck_o hd
        refine hr_iald (pc := 20) hx hb hK hW h17 h18 dX12_pile_20 ?_
        refine lv_iload (pc := 21) hx hb dX12_pile_21 (lv_at hl 4 rfl) ?_
        refine lv_ishr (pc := 23) hx hb dX12_pile_23 ?_
        refine lv_iconst (pc := 24) (v := 1) hx hb dX12_pile_24 (by decide) ?_
        refine lv_iand (pc := 25) hx hb dX12_pile_25 ?_
        refine lv_iconst (pc := 26) (v := 1) hx hb dX12_pile_26 (by decide) ?_
        refine lv_icmp_ne (pc := 27) (tgt := 56) hx hb dX12_pile_27 (by decide) (fun c19 => ?_) (fun c19 => ?_)
        · have hd := wt_if hd c19
          obtain ⟨n20, en20, hd⟩ := wt_lt_o hd
          refine lv_iinc (pc := 56) (k := 4) (v := n20) (lv' := [(4, .int n20), (0, .ref o_), (1, .int a0), (2, .int a1), (3, .int v1.1)]) hx hb dX12_pile_56 hl rfl en20.symm (by decide) rfl (fun ls hl => ?_)
          refine lv_goto (pc := 59) (tgt := 5) hx hb dX12_pile_59 (by decide) ?_
          exact ih7 _ (wt_again hd hk6) _ _ _ hW hS (lv_sub hl [1, 2, 3, 4, 0] rfl)
        · have hd := wt_it hd c19
          refine lv_iload_n (pc := 30) hx hb dX12_pile_30 rfl (lv_at hl 3 rfl) ?_
          refine lv_aload_n (pc := 31) hx hb dX12_pile_31 rfl (lv_at hl 0 rfl) ?_
          obtain ⟨ad21, h22, hd⟩ := wt_bd_o hd
          refine hr_get (pc := 32) hx hb hts hown hK hW (hgA_o h22) hf_9_1 (fun _ h => h) q1079 dX12_pile_32 ?_
          refine lv_bipush (pc := 35) (v := 10) hx hb dX12_pile_35 (by decide) ?_
          refine lv_iload_n (pc := 37) hx hb dX12_pile_37 rfl (lv_at hl 1 rfl) ?_
          refine lv_imul (pc := 38) hx hb dX12_pile_38 ?_
          refine lv_iload (pc := 39) hx hb dX12_pile_39 (lv_at hl 4 rfl) ?_
          refine lv_iadd (pc := 41) hx hb dX12_pile_41 ?_
          obtain ⟨z23, h24, hd⟩ := wt_bd_o hd
          obtain ⟨h25, hd⟩ := wt_ck_o hd
          refine hr_iald (pc := 42) hx hb hK hW h24 h25 dX12_pile_42 ?_
          refine lv_aload_n (pc := 43) hx hb dX12_pile_43 rfl (lv_at hl 0 rfl) ?_
          obtain ⟨ad26, h27, hd⟩ := wt_bd_o hd
          refine hr_get (pc := 44) hx hb hts hown hK hW (hgA_o h27) hf_9_0 (fun _ h => h) q1077 dX12_pile_44 ?_
          obtain ⟨ad28, h29, hd⟩ := wt_bd_o hd
          refine hr_getN (pc := 47) hx hb hts hown hK hT hW (hgA_o h29) hf_1_2 (fun _ h => h) q127 dX12_pile_47 ?_
          refine lv_iload (pc := 50) hx hb dX12_pile_50 (lv_at hl 4 rfl) ?_
          obtain ⟨z30, h31, hd⟩ := wt_bd_o hd
          obtain ⟨h32, hd⟩ := wt_ck_o hd
          refine hr_iald (pc := 52) hx hb hK hW h31 h32 dX12_pile_52 ?_
          refine lv_iadd (pc := 53) hx hb dX12_pile_53 ?_
          refine lv_iadd (pc := 54) hx hb dX12_pile_54 ?_
          obtain ⟨n33, en33, hd⟩ := wt_lt_o hd
          refine lv_tope en33 ?_
          refine lv_istore_n (pc := 55) (lv' := [(3, .int n33), (0, .ref o_), (1, .int a0), (2, .int a1), (4, .int v1.2)]) hx hb dX12_pile_55 rfl hl (by decide) rfl (fun ls hl => ?_)
          obtain ⟨n34, en34, hd⟩ := wt_lt_o hd
          refine lv_iinc (pc := 56) (k := 4) (v := n34) (lv' := [(4, .int n34), (3, .int n33), (0, .ref o_), (1, .int a0), (2, .int a1)]) hx hb dX12_pile_56 hl rfl en34.symm (by decide) rfl (fun ls hl => ?_)
          refine lv_goto (pc := 59) (tgt := 5) hx hb dX12_pile_59 (by decide) ?_
          exact ih7 _ (wt_again hd hk6) _ _ _ hW hS (lv_sub hl [2, 3, 4, 1, 0] rfl)
  obtain ⟨k9, hL3⟩ := wt_whC_o hL3
  exact hI10 k9 _ hL3 _ _ _ hW hS (lv_sub hl [2, 3, 4, 1, 0] rfl)
theorem kX12_pile {p : Program} {l : Launch} {e : Env} {R : Room} {s : State} {m : MethodId} {args : Array Value} {below : List Frame} {meth : Method} {c : Code} {H : Heap} {locs : List Loc} {cells slots : Nat} {Q : State → Prop} {cc : ByteArray} {pc : Nat} {ls : Array Slot} {rest : List Value} {nL : Nat} {own : String} {index : Nat} {G : HG} {A : Nat → Prop} {τ : HP} {o_ : Nat} {a0 : Int32} {a1 : Int32} {out_ : Int32} (hx : p.tables.exec = Jvm.exec) (hb : c.code = cc) (hml : c.maxLocals = nL) (hown : s.vm.findClass own = some m.cls) (hts : ∀ w ∈ lw_all, w.before args s = true) (hC : Hcx G A s) (hW : Hw G A τ H) (hS : va_S A s.heap H locs) (hrc : hcl τ o_ = some 9) (hd : eX12_pile τ o_ a0 a1 = some out_) (hsz : ls.size = nL) (hrm : (rest.map fun v => v.category).sum ≤ 8) (hR : 2 ≤ R.frames ∧ 56 ≤ R.locals) (hcs : cells ≤ R.cells ∧ slots ≤ R.slots) (hlk : Cond.methodLink own index yX12_pile ∈ lw_all) (hdg : decode cc pc = .ok (.invokevirtual index, 3)) (kk : ∀ (H1 : Heap) (locs1 : List Loc), Hw G A τ H1 → va_S A s.heap H1 locs1 → W p l e R s m args below meth c H1 locs1 cells slots Q (F0 m (pc + 3) ls (.int out_ :: rest))) : W p l e R s m args below meth c H locs cells slots Q (F0 m pc ls (.int a1 :: .int a0 :: .ref o_ :: rest)) := by
  refine va_calli (va_runV (As := [.int a0, .int a1]) (rest := rest) ⟨hx, hb, hml, hown, hts⟩ (wX12_pile l hd) (cwV 2 hts (lw_V hlk q1145 q1146 q98 q1147) rfl rfl rfl (by decide +kernel) hR) (hr_preV hC hW hS hrc rfl rfl) rfl rfl hsz rfl (lv_room hrm) hdg hcs) hS (fun _ _ h => h) (fun _ h => h) (fun r u t H1 locs1 ht hvm hp hB hz hk hS1 => ?_)
  have hp : r = out_ := hp
  subst hp
  have hW1 : Hw G A τ t.heap := hB
  rw [ht] at hW1
  exact kk H1 locs1 hW1 hS1
noncomputable def eX13_init (τ : HP) (o_ : Nat) (a0 : Int32) (a1 : Int32) (a2 : Int32) (a3 : Int32) : Option (HP) :=
  wt_bd (hp τ o_ [10] 0 (.int a0)) fun τ1 => wt_bd (hp τ1 o_ [10] 1 (.int a1)) fun τ3 => wt_bd (hp τ3 o_ [10] 2 (.int a2)) fun τ5 => wt_bd (hp τ5 o_ [10] 3 (.int a3)) fun τ7 => some (τ7)
set_option maxHeartbeats 4000000 in
theorem wX13_init (l : Launch) {G : HG} {A : Nat → Prop} {τ : HP} {o_ : Nat} {a0 : Int32} {a1 : Int32} {a2 : Int32} {a3 : Int32} {out_ : HP} (hd : eX13_init τ o_ a0 a1 a2 a3 = some out_) : Met l yX13_init (ws_ yX13_init cX13_init 5 none) ({ frames := 1, cells := 0, slots := 0, locals := 32 }) (hPc G A τ [.ref o_, .int a0, .int a1, .int a2, .int a3]) (hQv G out_ A) 0 0 A := by
  refine Met.ofW (cc := cX13_init) (maxL := 5) (ret := none) (by decide) rfl ?_
  intro p_ e_ s_ m_ args_ below_ meth_ c_ s₁_ B hml hv
  obtain ⟨rfl, hW, hC⟩ := hv
  have hx := B.exec
  have hb := B.bytes
  have hr := B.returns
  have hts := atoms_spec (ws := (ws_ yX13_init cX13_init 5 none)) B.pre
  have hts : ∀ w ∈ lw_all, w.before _ s_ = true := fun w h => hts w (List.mem_cons_of_mem _ h)
  have hown : s_.vm.findClass RX13 = some m_.cls := findClass_of_methodNamed B.named
  have hlocks := B.notSynchronized
  have hK := hC.1
  have hT := hC.2.1
  have hL := hC.2.2.1
  have hZ := hC.2.2.2.2.1
  have hA := hC.2.2.2.2.2
  have hin2 : meth_.name = "<init>" := (name_of_methodNamed B.named B.method).1
  have hS : va_S A s_.heap s_.heap [] := va_S.rf
  have hl := lv_entry ([.ref o_, .int a0, .int a1, .int a2, .int a3]) (n := 5) (Nat.le_of_ble_eq_true rfl)
  rw [lg_entry_eq]
  generalize (lg_sl ([.ref o_, .int a0, .int a1, .int a2, .int a3]) ++ List.replicate (5 - (lg_sl ([.ref o_, .int a0, .int a1, .int a2, .int a3])).length) Slot.unset).toArray = ls at hl ⊢
  have hl : lv_has ls 5 [(0, .ref o_), (1, .int a0), (2, .int a1), (3, .int a2), (4, .int a3)] := hl
  unfold eX13_init at hd
  refine lv_aload_n (pc := 0) hx hb dX13_init_0 rfl (lv_at hl 0 rfl) ?_
  refine W.objInit (g := F0 m_ 1 ls _) hx hb hown (hts _ q1167) (hts _ q110) (hts _ q111) rfl (by rw [hml]; exact hl.1) rfl dX13_init_1 (Nat.le_of_ble_eq_true rfl) (Nat.le_of_ble_eq_true rfl) ?_
  refine W.eq (g2 := F0 m_ 4 ls []) rfl ?_
  refine lv_aload_n (pc := 4) hx hb dX13_init_4 rfl (lv_at hl 0 rfl) ?_
  refine lv_iload_n (pc := 5) hx hb dX13_init_5 rfl (lv_at hl 1 rfl) ?_
  obtain ⟨τ1, h2, hd⟩ := wt_bd_o hd
  refine hr_putF (pc := 6) (ty := .int) hx hb hts hown hK hin2 hW hS h2 hf_10_0 (by decide +kernel) rfl rfl q1168 dX13_init_6 (fun H locs hW hS => ?_)
  refine lv_aload_n (pc := 9) hx hb dX13_init_9 rfl (lv_at hl 0 rfl) ?_
  refine lv_iload_n (pc := 10) hx hb dX13_init_10 rfl (lv_at hl 2 rfl) ?_
  obtain ⟨τ3, h4, hd⟩ := wt_bd_o hd
  refine hr_putF (pc := 11) (ty := .int) hx hb hts hown hK hin2 hW hS h4 hf_10_1 (by decide +kernel) rfl rfl q1171 dX13_init_11 (fun H locs hW hS => ?_)
  refine lv_aload_n (pc := 14) hx hb dX13_init_14 rfl (lv_at hl 0 rfl) ?_
  refine lv_iload_n (pc := 15) hx hb dX13_init_15 rfl (lv_at hl 3 rfl) ?_
  obtain ⟨τ5, h6, hd⟩ := wt_bd_o hd
  refine hr_putF (pc := 16) (ty := .int) hx hb hts hown hK hin2 hW hS h6 hf_10_2 (by decide +kernel) rfl rfl q1174 dX13_init_16 (fun H locs hW hS => ?_)
  refine lv_aload_n (pc := 19) hx hb dX13_init_19 rfl (lv_at hl 0 rfl) ?_
  refine lv_iload (pc := 20) hx hb dX13_init_20 (lv_at hl 4 rfl) ?_
  obtain ⟨τ7, h8, hd⟩ := wt_bd_o hd
  refine hr_putF (pc := 22) (ty := .int) hx hb hts hown hK hin2 hW hS h8 hf_10_3 (by decide +kernel) rfl rfl q1177 dX13_init_22 (fun H locs hW hS => ?_)
  exact hr_vret hx hb hr hlocks (Option.some.inj hd) hW hS dX13_init_25 (Nat.le_of_ble_eq_true rfl) (Nat.le_of_ble_eq_true rfl)
theorem kX13_init {p : Program} {l : Launch} {e : Env} {R : Room} {s : State} {m : MethodId} {args : Array Value} {below : List Frame} {meth : Method} {c : Code} {H : Heap} {locs : List Loc} {cells slots : Nat} {Q : State → Prop} {cc : ByteArray} {pc : Nat} {ls : Array Slot} {rest : List Value} {nL : Nat} {own : String} {index : Nat} {G : HG} {A : Nat → Prop} {τ : HP} {o_ : Nat} {a0 : Int32} {a1 : Int32} {a2 : Int32} {a3 : Int32} {out_ : HP} (hx : p.tables.exec = Jvm.exec) (hb : c.code = cc) (hml : c.maxLocals = nL) (hown : s.vm.findClass own = some m.cls) (hts : ∀ w ∈ lw_all, w.before args s = true) (hC : Hcx G A s) (hW : Hw G A τ H) (hS : va_S A s.heap H locs) (hd : eX13_init τ o_ a0 a1 a2 a3 = some out_) (hsz : ls.size = nL) (hrm : (rest.map fun v => v.category).sum ≤ 8) (hR : 2 ≤ R.frames ∧ 56 ≤ R.locals) (hcs : cells ≤ R.cells ∧ slots ≤ R.slots) (hlk : Cond.methodLink own index yX13_init ∈ lw_all) (hdg : decode cc pc = .ok (.invokespecial index, 3)) (kk : ∀ (H1 : Heap) (locs1 : List Loc), Hw G A out_ H1 → va_S A s.heap H1 locs1 → W p l e R s m args below meth c H1 locs1 cells slots Q (F0 m (pc + 3) ls (rest))) : W p l e R s m args below meth c H locs cells slots Q (F0 m pc ls (.int a3 :: .int a2 :: .int a1 :: .int a0 :: .ref o_ :: rest)) := by
  refine va_callv (va_runI (As := [.int a0, .int a1, .int a2, .int a3]) (rest := rest) ⟨hx, hb, hml, hown, hts⟩ (wX13_init l hd) (cwI 4 hts (lw_meth q1166) rfl rfl rfl (hts _ q99) (hts _ hlk) (hts _ q1165) rfl (by decide +kernel) hR) (hr_preS hC hW hS) rfl rfl hsz rfl (lv_room hrm) hdg hcs) hS (fun _ _ h => h) (fun _ h => h) (fun u t H1 locs1 ht hvm hp hB hz hk hS1 => ?_)
  have hW1 : Hw G A out_ t.heap := hB
  rw [ht] at hW1
  exact kk H1 locs1 hW1 hS1
noncomputable def bX14_trim_1 (o_ : Nat) (v1 : HP) : Option ((HP) ⊕ (HP)) :=
  wt_bd (hgI v1 o_ [11] 1) fun f11 => if f11 ≤ (1 : Int32) then (some (.inr v1)) else (wt_bd (hgA v1 o_ [11] 0) fun ad14 => wt_bd (hgI v1 o_ [11] 1) fun f16 => wt_bd (haI v1 ad14 0) fun z18 => wt_ck (vp_in (f16 - (1 : Int32)) z18.1) <| if (z18.2 (f16 - (1 : Int32)).toNatClampNeg) = 0 then (wt_bd (hgI v1 o_ [11] 1) fun f22 => wt_bd (hp v1 o_ [11] 1 (.int ((f22 - (1 : Int32))))) fun τ24 => some (.inl τ24)) else (some (.inr v1)))
noncomputable def eX14_trim (τ : HP) (o_ : Nat) : Option (HP) :=
  wt_bd (wt_whC (bX14_trim_1 o_) τ) fun w2 => some w2
set_option maxHeartbeats 4000000 in
theorem wX14_trim (l : Launch) {G : HG} {A : Nat → Prop} {τ : HP} {o_ : Nat} {out_ : HP} (hd : eX14_trim τ o_ = some out_) : Met l yX14_trim (ws_ yX14_trim cX14_trim 1 none) ({ frames := 0, cells := 0, slots := 0, locals := 0 }) (hPc G A τ [.ref o_]) (hQv G out_ A) 0 0 A := by
  refine Met.ofW (cc := cX14_trim) (maxL := 1) (ret := none) (by decide) rfl ?_
  intro p_ e_ s_ m_ args_ below_ meth_ c_ s₁_ B hml hv
  obtain ⟨rfl, hW, hC⟩ := hv
  have hx := B.exec
  have hb := B.bytes
  have hr := B.returns
  have hts := atoms_spec (ws := (ws_ yX14_trim cX14_trim 1 none)) B.pre
  have hts : ∀ w ∈ lw_all, w.before _ s_ = true := fun w h => hts w (List.mem_cons_of_mem _ h)
  have hown : s_.vm.findClass RX14 = some m_.cls := findClass_of_methodNamed B.named
  have hlocks := B.notSynchronized
  have hK := hC.1
  have hT := hC.2.1
  have hL := hC.2.2.1
  have hZ := hC.2.2.2.2.1
  have hA := hC.2.2.2.2.2
  have hS : va_S A s_.heap s_.heap [] := va_S.rf
  have hl := lv_entry ([.ref o_]) (n := 1) (Nat.le_of_ble_eq_true rfl)
  rw [lg_entry_eq]
  generalize (lg_sl ([.ref o_]) ++ List.replicate (1 - (lg_sl ([.ref o_])).length) Slot.unset).toArray = ls at hl ⊢
  have hl : lv_has ls 1 [(0, .ref o_)] := hl
  unfold eX14_trim at hd
  obtain ⟨w2, hL3, hq4⟩ := wt_bd_o hd
  have hX5 : ∀ w2_ : HP, w2_ = w2 → ∀ (H : Heap) (locs : List Loc) (ls : Array Slot), Hw G A w2_ H → va_S A s_.heap H locs → lv_has ls 1 [] → W p_ l e_ (headSpec (ws_ yX14_trim cX14_trim 1 none) ({ frames := 0, cells := 0, slots := 0, locals := 0 })).room s_ m_ ([.ref o_] : List Value).toArray below_ meth_ c_ H locs 0 0 (MQ below_ (hQv G out_ A) ([.ref o_] : List Value).toArray s_ 0 0 A) (F0 m_ 35 ls []) := by
    intro w2_ hw_
    have hd := hq4
    subst hw_
    clear hL3 hq4
    intro H locs ls hW hS hl
    exact hr_vret hx hb hr hlocks (Option.some.inj hd) hW hS dX14_trim_35 (Nat.le_of_ble_eq_true rfl) (Nat.le_of_ble_eq_true rfl)
  have hI10 : ∀ (k9 : Nat) (v1 : HP), wt_wh (bX14_trim_1 o_) k9 v1 = some w2 → ∀ (H : Heap) (locs : List Loc) (ls : Array Slot), Hw G A v1 H → va_S A s_.heap H locs → lv_has ls 1 [(0, .ref o_)] → W p_ l e_ (headSpec (ws_ yX14_trim cX14_trim 1 none) ({ frames := 0, cells := 0, slots := 0, locals := 0 })).room s_ m_ ([.ref o_] : List Value).toArray below_ meth_ c_ H locs 0 0 (MQ below_ (hQv G out_ A) ([.ref o_] : List Value).toArray s_ 0 0 A) (F0 m_ 0 ls []) := by
    intro k9
    induction k9 with
    | zero => intro v1 hd; exact absurd hd wt_wh_z
    | succ k9 ih7 =>
      intro v1 hd
      intro H locs ls hW hS hl
      obtain ⟨r8, hd, hk6⟩ := wt_wh_o hd
      unfold bX14_trim_1 at hd
      refine lv_aload_n (pc := 0) hx hb dX14_trim_0 rfl (lv_at hl 0 rfl) ?_
      obtain ⟨f11, h12, hd⟩ := wt_bd_o hd
      refine hr_get (pc := 1) hx hb hts hown hK hW (hgI_o h12) hf_11_1 (fun _ h => h) q1290 dX14_trim_1 ?_
      refine lv_iconst (pc := 4) (v := 1) hx hb dX14_trim_4 (by decide) ?_
      refine lv_icmp_le (pc := 5) (tgt := 35) hx hb dX14_trim_5 (by decide) (fun c13 => ?_) (fun c13 => ?_)
      · have hd := wt_it hd c13
        exact hX5 v1 (wt_exit hd hk6) _ _ _ hW hS (lv_sub hl [] rfl)
      · have hd := wt_if hd c13
        refine lv_aload_n (pc := 8) hx hb dX14_trim_8 rfl (lv_at hl 0 rfl) ?_
        obtain ⟨ad14, h15, hd⟩ := wt_bd_o hd
        refine hr_get (pc := 9) hx hb hts hown hK hW (hgA_o h15) hf_11_0 (fun _ h => h) q1289 dX14_trim_9 ?_
        refine lv_aload_n (pc := 12) hx hb dX14_trim_12 rfl (lv_at hl 0 rfl) ?_
        obtain ⟨f16, h17, hd⟩ := wt_bd_o hd
        refine hr_get (pc := 13) hx hb hts hown hK hW (hgI_o h17) hf_11_1 (fun _ h => h) q1290 dX14_trim_13 ?_
        refine lv_iconst (pc := 16) (v := 1) hx hb dX14_trim_16 (by decide) ?_
        refine lv_isub (pc := 17) hx hb dX14_trim_17 ?_
        obtain ⟨z18, h19, hd⟩ := wt_bd_o hd
        obtain ⟨h20, hd⟩ := wt_ck_o hd
        refine hr_iald (pc := 18) hx hb hK hW h19 h20 dX14_trim_18 ?_
        refine lv_if_ne (pc := 19) (tgt := 35) hx hb dX14_trim_19 (by decide) (fun c21 => ?_) (fun c21 => ?_)
        · have hd := wt_if hd c21
          exact hX5 v1 (wt_exit hd hk6) _ _ _ hW hS (lv_sub hl [] rfl)
        · have hd := wt_it hd c21
          refine lv_aload_n (pc := 22) hx hb dX14_trim_22 rfl (lv_at hl 0 rfl) ?_
          refine lv_dup (pc := 23) hx hb dX14_trim_23 rfl ?_
          obtain ⟨f22, h23, hd⟩ := wt_bd_o hd
          refine hr_get (pc := 24) hx hb hts hown hK hW (hgI_o h23) hf_11_1 (fun _ h => h) q1290 dX14_trim_24 ?_
          refine lv_iconst (pc := 27) (v := 1) hx hb dX14_trim_27 (by decide) ?_
          refine lv_isub (pc := 28) hx hb dX14_trim_28 ?_
          obtain ⟨τ24, h25, hd⟩ := wt_bd_o hd
          refine hr_put (pc := 29) (ty := .int) hx hb hts hown hK hW hS h25 hf_11_1 (by decide +kernel) rfl rfl (fun _ h => h) q1290 dX14_trim_29 (fun H locs hW hS => ?_)
          refine lv_goto (pc := 32) (tgt := 0) hx hb dX14_trim_32 (by decide) ?_
          exact ih7 _ (wt_again hd hk6) _ _ _ hW hS hl
  obtain ⟨k9, hL3⟩ := wt_whC_o hL3
  exact hI10 k9 _ hL3 _ _ _ hW hS hl
theorem kX14_trim {p : Program} {l : Launch} {e : Env} {R : Room} {s : State} {m : MethodId} {args : Array Value} {below : List Frame} {meth : Method} {c : Code} {H : Heap} {locs : List Loc} {cells slots : Nat} {Q : State → Prop} {cc : ByteArray} {pc : Nat} {ls : Array Slot} {rest : List Value} {nL : Nat} {own : String} {index : Nat} {G : HG} {A : Nat → Prop} {τ : HP} {o_ : Nat} {out_ : HP} (hx : p.tables.exec = Jvm.exec) (hb : c.code = cc) (hml : c.maxLocals = nL) (hown : s.vm.findClass own = some m.cls) (hts : ∀ w ∈ lw_all, w.before args s = true) (hC : Hcx G A s) (hW : Hw G A τ H) (hS : va_S A s.heap H locs) (hrc : hcl τ o_ = some 11) (hd : eX14_trim τ o_ = some out_) (hsz : ls.size = nL) (hrm : (rest.map fun v => v.category).sum ≤ 8) (hR : 1 ≤ R.frames ∧ 20 ≤ R.locals) (hcs : cells ≤ R.cells ∧ slots ≤ R.slots) (hlk : Cond.methodLink own index yX14_trim ∈ lw_all) (hdg : decode cc pc = .ok (.invokevirtual index, 3)) (kk : ∀ (H1 : Heap) (locs1 : List Loc), Hw G A out_ H1 → va_S A s.heap H1 locs1 → W p l e R s m args below meth c H1 locs1 cells slots Q (F0 m (pc + 3) ls (rest))) : W p l e R s m args below meth c H locs cells slots Q (F0 m pc ls (.ref o_ :: rest)) := by
  refine va_callv (va_runV (As := []) (rest := rest) ⟨hx, hb, hml, hown, hts⟩ (wX14_trim l hd) (cwV 0 hts (lw_V hlk q1287 qs19 q102 q1288) rfl rfl rfl (by decide +kernel) hR) (hr_preV hC hW hS hrc rfl rfl) rfl rfl hsz rfl (lv_room hrm) hdg hcs) hS (fun _ _ h => h) (fun _ h => h) (fun u t H1 locs1 ht hvm hp hB hz hk hS1 => ?_)
  have hW1 : Hw G A out_ t.heap := hB
  rw [ht] at hW1
  exact kk H1 locs1 hW1 hS1
noncomputable def eX14_init (τ : HP) (o_ : Nat) (a0 : Int32) : Option (HP) :=
  wt_lt (hnew τ (.inl (0, 310, .inl (fun _ => 0)))) fun τ1 => wt_bd (hp τ1 o_ [11] 0 (.ref (τ.2))) fun τ2 => wt_bd (hp τ2 o_ [11] 1 (.int (1 : Int32))) fun τ4 => wt_bd (hgA τ4 o_ [11] 0) fun ad6 => wt_bd (haI τ4 ad6 0) fun z8 => wt_ck (vp_in (0 : Int32) z8.1) <| wt_lt (hst τ4 ad6 (.inl (0, z8.1, .inl (upd z8.2 (0 : Int32).toNatClampNeg (a0 - a0 / (10000 : Int32) * (10000 : Int32)))))) fun τ11 => wt_bd (hgA τ11 o_ [11] 0) fun ad12 => wt_bd (haI τ11 ad12 0) fun z14 => wt_ck (vp_in (1 : Int32) z14.1) <| wt_lt (hst τ11 ad12 (.inl (0, z14.1, .inl (upd z14.2 (1 : Int32).toNatClampNeg ((a0 / (10000 : Int32)) - (a0 / (10000 : Int32)) / (10000 : Int32) * (10000 : Int32)))))) fun τ17 => wt_bd (hgA τ17 o_ [11] 0) fun ad18 => wt_bd (haI τ17 ad18 0) fun z20 => wt_ck (vp_in (2 : Int32) z20.1) <| wt_lt (hst τ17 ad18 (.inl (0, z20.1, .inl (upd z20.2 (2 : Int32).toNatClampNeg ((a0 / (10000 : Int32)) / (10000 : Int32)))))) fun τ23 => wt_bd (hp τ23 o_ [11] 1 (.int (3 : Int32))) fun τ24 => wt_ck (hcl τ24 o_ = some 11) <| wt_bd (eX14_trim τ24 o_) fun w27 => some w27
set_option maxHeartbeats 4000000 in
theorem wX14_init (l : Launch) {G : HG} {A : Nat → Prop} {τ : HP} {o_ : Nat} {a0 : Int32} {out_ : HP} (hd : eX14_init τ o_ a0 = some out_) : Met l yX14_init (ws_ yX14_init cX14_init 2 none) ({ frames := 1, cells := 1, slots := 310, locals := 32 }) (hPc G A τ [.ref o_, .int a0]) (hQv G out_ A) 1 310 A := by
  refine Met.ofW (cc := cX14_init) (maxL := 2) (ret := none) (by decide) rfl ?_
  intro p_ e_ s_ m_ args_ below_ meth_ c_ s₁_ B hml hv
  obtain ⟨rfl, hW, hC⟩ := hv
  have hx := B.exec
  have hb := B.bytes
  have hr := B.returns
  have hts := atoms_spec (ws := (ws_ yX14_init cX14_init 2 none)) B.pre
  have hts : ∀ w ∈ lw_all, w.before _ s_ = true := fun w h => hts w (List.mem_cons_of_mem _ h)
  have hown : s_.vm.findClass RX14 = some m_.cls := findClass_of_methodNamed B.named
  have hlocks := B.notSynchronized
  have hK := hC.1
  have hT := hC.2.1
  have hL := hC.2.2.1
  have hZ := hC.2.2.2.2.1
  have hA := hC.2.2.2.2.2
  have hin2 : meth_.name = "<init>" := (name_of_methodNamed B.named B.method).1
  have hS : va_S A s_.heap s_.heap [] := va_S.rf
  have hl := lv_entry ([.ref o_, .int a0]) (n := 2) (Nat.le_of_ble_eq_true rfl)
  rw [lg_entry_eq]
  generalize (lg_sl ([.ref o_, .int a0]) ++ List.replicate (2 - (lg_sl ([.ref o_, .int a0])).length) Slot.unset).toArray = ls at hl ⊢
  have hl : lv_has ls 2 [(0, .ref o_), (1, .int a0)] := hl
  unfold eX14_init at hd
  refine lv_aload_n (pc := 0) hx hb dX14_init_0 rfl (lv_at hl 0 rfl) ?_
  refine W.objInit (g := F0 m_ 1 ls _) hx hb hown (hts _ q1284) (hts _ q110) (hts _ q111) rfl (by rw [hml]; exact hl.1) rfl dX14_init_1 (Nat.le_of_ble_eq_true rfl) (Nat.le_of_ble_eq_true rfl) ?_
  refine W.eq (g2 := F0 m_ 4 ls []) rfl ?_
  refine lv_aload_n (pc := 4) hx hb dX14_init_4 rfl (lv_at hl 0 rfl) ?_
  refine lv_sipush (pc := 5) (v := 310) hx hb dX14_init_5 (by decide) ?_
  obtain ⟨τ1, eτ1, hd⟩ := wt_lt_o hd
  refine hr_newI (pc := 8) (N := 310) hx hb hts hK hW hS hA (by decide) rfl (by decide) eτ1 (Nat.le_of_ble_eq_true rfl) (Nat.le_of_ble_eq_true rfl) dX14_init_8 (fun H hW hS => ?_)
  obtain ⟨τ2, h3, hd⟩ := wt_bd_o hd
  refine hr_putF (pc := 10) (ty := (.array .int)) hx hb hts hown hK hin2 hW hS h3 hf_11_0 (by decide +kernel) rfl rfl q1289 dX14_init_10 (fun H locs hW hS => ?_)
  refine lv_aload_n (pc := 13) hx hb dX14_init_13 rfl (lv_at hl 0 rfl) ?_
  refine lv_iconst (pc := 14) (v := 1) hx hb dX14_init_14 (by decide) ?_
  obtain ⟨τ4, h5, hd⟩ := wt_bd_o hd
  refine hr_put (pc := 15) (ty := .int) hx hb hts hown hK hW hS h5 hf_11_1 (by decide +kernel) rfl rfl (fun _ h => h) q1290 dX14_init_15 (fun H locs hW hS => ?_)
  refine lv_aload_n (pc := 18) hx hb dX14_init_18 rfl (lv_at hl 0 rfl) ?_
  obtain ⟨ad6, h7, hd⟩ := wt_bd_o hd
  refine hr_get (pc := 19) hx hb hts hown hK hW (hgA_o h7) hf_11_0 (fun _ h => h) q1289 dX14_init_19 ?_
  refine lv_iconst (pc := 22) (v := 0) hx hb dX14_init_22 (by decide) ?_
  refine lv_iload_n (pc := 23) hx hb dX14_init_23 rfl (lv_at hl 1 rfl) ?_
  refine lv_sipush (pc := 24) (v := 10000) hx hb dX14_init_24 (by decide) ?_
  refine lv_irem (pc := 27) hx hb dX14_init_27 (by decide) ?_
  obtain ⟨z8, h9, hd⟩ := wt_bd_o hd
  obtain ⟨h10, hd⟩ := wt_ck_o hd
  obtain ⟨τ11, eτ11, hd⟩ := wt_lt_o hd
  refine hr_iast (pc := 28) hx hb hK hW hS h9 h10 eτ11 dX14_init_28 (fun H locs hW hS => ?_)
  refine lv_aload_n (pc := 29) hx hb dX14_init_29 rfl (lv_at hl 0 rfl) ?_
  obtain ⟨ad12, h13, hd⟩ := wt_bd_o hd
  refine hr_get (pc := 30) hx hb hts hown hK hW (hgA_o h13) hf_11_0 (fun _ h => h) q1289 dX14_init_30 ?_
  refine lv_iconst (pc := 33) (v := 1) hx hb dX14_init_33 (by decide) ?_
  refine lv_iload_n (pc := 34) hx hb dX14_init_34 rfl (lv_at hl 1 rfl) ?_
  refine lv_sipush (pc := 35) (v := 10000) hx hb dX14_init_35 (by decide) ?_
  refine lv_idiv (pc := 38) hx hb dX14_init_38 (by decide) ?_
  refine lv_sipush (pc := 39) (v := 10000) hx hb dX14_init_39 (by decide) ?_
  refine lv_irem (pc := 42) hx hb dX14_init_42 (by decide) ?_
  obtain ⟨z14, h15, hd⟩ := wt_bd_o hd
  obtain ⟨h16, hd⟩ := wt_ck_o hd
  obtain ⟨τ17, eτ17, hd⟩ := wt_lt_o hd
  refine hr_iast (pc := 43) hx hb hK hW hS h15 h16 eτ17 dX14_init_43 (fun H locs hW hS => ?_)
  refine lv_aload_n (pc := 44) hx hb dX14_init_44 rfl (lv_at hl 0 rfl) ?_
  obtain ⟨ad18, h19, hd⟩ := wt_bd_o hd
  refine hr_get (pc := 45) hx hb hts hown hK hW (hgA_o h19) hf_11_0 (fun _ h => h) q1289 dX14_init_45 ?_
  refine lv_iconst (pc := 48) (v := 2) hx hb dX14_init_48 (by decide) ?_
  refine lv_iload_n (pc := 49) hx hb dX14_init_49 rfl (lv_at hl 1 rfl) ?_
  refine lv_sipush (pc := 50) (v := 10000) hx hb dX14_init_50 (by decide) ?_
  refine lv_idiv (pc := 53) hx hb dX14_init_53 (by decide) ?_
  refine lv_sipush (pc := 54) (v := 10000) hx hb dX14_init_54 (by decide) ?_
  refine lv_idiv (pc := 57) hx hb dX14_init_57 (by decide) ?_
  obtain ⟨z20, h21, hd⟩ := wt_bd_o hd
  obtain ⟨h22, hd⟩ := wt_ck_o hd
  obtain ⟨τ23, eτ23, hd⟩ := wt_lt_o hd
  refine hr_iast (pc := 58) hx hb hK hW hS h21 h22 eτ23 dX14_init_58 (fun H locs hW hS => ?_)
  refine lv_aload_n (pc := 59) hx hb dX14_init_59 rfl (lv_at hl 0 rfl) ?_
  refine lv_iconst (pc := 60) (v := 3) hx hb dX14_init_60 (by decide) ?_
  obtain ⟨τ24, h25, hd⟩ := wt_bd_o hd
  refine hr_put (pc := 61) (ty := .int) hx hb hts hown hK hW hS h25 hf_11_1 (by decide +kernel) rfl rfl (fun _ h => h) q1290 dX14_init_61 (fun H locs hW hS => ?_)
  refine lv_aload_n (pc := 64) hx hb dX14_init_64 rfl (lv_at hl 0 rfl) ?_
  obtain ⟨h26, hd⟩ := wt_ck_o hd
  obtain ⟨w27, hc28, hd⟩ := wt_bd_o hd
  refine kX14_trim (pc := 65) hx hb hml hown hts hC hW hS h26 hc28 hl.1 (Nat.le_of_ble_eq_true rfl) ⟨Nat.le_of_ble_eq_true rfl, Nat.le_of_ble_eq_true rfl⟩ ⟨Nat.le_of_ble_eq_true rfl, Nat.le_of_ble_eq_true rfl⟩ q1285 dX14_init_65 (fun H locs hW hS => ?_)
  exact hr_vret hx hb hr hlocks (Option.some.inj hd) hW hS dX14_init_68 (Nat.le_of_ble_eq_true rfl) (Nat.le_of_ble_eq_true rfl)
theorem kX14_init {p : Program} {l : Launch} {e : Env} {R : Room} {s : State} {m : MethodId} {args : Array Value} {below : List Frame} {meth : Method} {c : Code} {H : Heap} {locs : List Loc} {cells slots : Nat} {Q : State → Prop} {cc : ByteArray} {pc : Nat} {ls : Array Slot} {rest : List Value} {nL : Nat} {own : String} {index : Nat} {G : HG} {A : Nat → Prop} {τ : HP} {o_ : Nat} {a0 : Int32} {out_ : HP} (hx : p.tables.exec = Jvm.exec) (hb : c.code = cc) (hml : c.maxLocals = nL) (hown : s.vm.findClass own = some m.cls) (hts : ∀ w ∈ lw_all, w.before args s = true) (hC : Hcx G A s) (hW : Hw G A τ H) (hS : va_S A s.heap H locs) (hd : eX14_init τ o_ a0 = some out_) (hsz : ls.size = nL) (hrm : (rest.map fun v => v.category).sum ≤ 8) (hR : 2 ≤ R.frames ∧ 53 ≤ R.locals) (hcs : (cells + 1) ≤ R.cells ∧ (slots + 310) ≤ R.slots) (hlk : Cond.methodLink own index yX14_init ∈ lw_all) (hdg : decode cc pc = .ok (.invokespecial index, 3)) (kk : ∀ (H1 : Heap) (locs1 : List Loc), Hw G A out_ H1 → va_S A s.heap H1 locs1 → W p l e R s m args below meth c H1 locs1 (cells + 1) (slots + 310) Q (F0 m (pc + 3) ls (rest))) : W p l e R s m args below meth c H locs cells slots Q (F0 m pc ls (.int a0 :: .ref o_ :: rest)) := by
  refine va_callv (va_runI (As := [.int a0]) (rest := rest) ⟨hx, hb, hml, hown, hts⟩ (wX14_init l hd) (cwI 1 hts (lw_meth q1283) rfl rfl rfl (hts _ q102) (hts _ hlk) (hts _ q1282) rfl (by decide +kernel) hR) (hr_preS hC hW hS) rfl rfl hsz rfl (lv_room hrm) hdg hcs) hS (fun _ _ h => h) (fun _ h => h) (fun u t H1 locs1 ht hvm hp hB hz hk hS1 => ?_)
  have hW1 : Hw G A out_ t.heap := hB
  rw [ht] at hW1
  exact kk H1 locs1 hW1 hS1
noncomputable def bX14_times_1 (o_ : Nat) (a0 : Int32) (v1 : Int64 × Int32 × HP) : Option ((Int64 × Int32 × HP) ⊕ (Int64 × HP)) :=
  wt_bd (hgI v1.2.2 o_ [11] 1) fun f11 => if f11 ≤ v1.2.1 then (some (.inr (v1.1, v1.2.2))) else (wt_bd (hgA v1.2.2 o_ [11] 0) fun ad14 => wt_bd (haI v1.2.2 ad14 0) fun z16 => wt_ck (vp_in v1.2.1 z16.1) <| wt_lt ((v1.1 + ((Int32.toInt64 (z16.2 v1.2.1.toNatClampNeg)) * (Int32.toInt64 a0)))) fun n19 => wt_bd (hgA v1.2.2 o_ [11] 0) fun ad20 => wt_bd (haI v1.2.2 ad20 0) fun z22 => wt_ck (vp_in v1.2.1 z22.1) <| wt_lt (hst v1.2.2 ad20 (.inl (0, z22.1, .inl (upd z22.2 v1.2.1.toNatClampNeg (Int64.toInt32 (n19 - n19 / (10000 : Int64) * (10000 : Int64))))))) fun τ25 => wt_lt ((n19 / (10000 : Int64))) fun n26 => wt_lt (v1.2.1 + (1 : Int32)) fun n27 => some (.inl (n26, n27, τ25)))
noncomputable def bX14_times_2 (o_ : Nat) (v28 : Int64 × HP) : Option ((Int64 × HP) ⊕ (HP)) :=
  if (lg_cmp v28.1 (0 : Int64)) ≤ 0 then (some (.inr v28.2)) else (wt_bd (hgA v28.2 o_ [11] 0) fun ad39 => wt_bd (hgI v28.2 o_ [11] 1) fun f41 => wt_bd (haI v28.2 ad39 0) fun z43 => wt_ck (vp_in f41 z43.1) <| wt_lt (hst v28.2 ad39 (.inl (0, z43.1, .inl (upd z43.2 f41.toNatClampNeg (Int64.toInt32 (v28.1 - v28.1 / (10000 : Int64) * (10000 : Int64))))))) fun τ46 => wt_bd (hgI τ46 o_ [11] 1) fun f47 => wt_bd (hp τ46 o_ [11] 1 (.int ((f47 + (1 : Int32))))) fun τ49 => wt_lt ((v28.1 / (10000 : Int64))) fun n51 => some (.inl (n51, τ49)))
noncomputable def eX14_times (τ : HP) (o_ : Nat) (a0 : Int32) : Option (HP) :=
  wt_bd (wt_whC (bX14_times_1 o_ a0) ((0 : Int64), (0 : Int32), τ)) fun w2 => wt_bd (wt_whC (bX14_times_2 o_) (w2.1, w2.2)) fun w29 => wt_ck (hcl w29 o_ = some 11) <| wt_bd (eX14_trim w29 o_) fun w53 => some w53
set_option maxHeartbeats 4000000 in
theorem wX14_times (l : Launch) {G : HG} {A : Nat → Prop} {τ : HP} {o_ : Nat} {a0 : Int32} {out_ : HP} (hd : eX14_times τ o_ a0 = some out_) : Met l yX14_times (ws_ yX14_times cX14_times 5 none) ({ frames := 1, cells := 0, slots := 0, locals := 20 }) (hPc G A τ [.ref o_, .int a0]) (hQv G out_ A) 0 0 A := by
  refine Met.ofW (cc := cX14_times) (maxL := 5) (ret := none) (by decide) rfl ?_
  intro p_ e_ s_ m_ args_ below_ meth_ c_ s₁_ B hml hv
  obtain ⟨rfl, hW, hC⟩ := hv
  have hx := B.exec
  have hb := B.bytes
  have hr := B.returns
  have hts := atoms_spec (ws := (ws_ yX14_times cX14_times 5 none)) B.pre
  have hts : ∀ w ∈ lw_all, w.before _ s_ = true := fun w h => hts w (List.mem_cons_of_mem _ h)
  have hown : s_.vm.findClass RX14 = some m_.cls := findClass_of_methodNamed B.named
  have hlocks := B.notSynchronized
  have hK := hC.1
  have hT := hC.2.1
  have hL := hC.2.2.1
  have hZ := hC.2.2.2.2.1
  have hA := hC.2.2.2.2.2
  have hS : va_S A s_.heap s_.heap [] := va_S.rf
  have hl := lv_entry ([.ref o_, .int a0]) (n := 5) (Nat.le_of_ble_eq_true rfl)
  rw [lg_entry_eq]
  generalize (lg_sl ([.ref o_, .int a0]) ++ List.replicate (5 - (lg_sl ([.ref o_, .int a0])).length) Slot.unset).toArray = ls at hl ⊢
  have hl : lv_has ls 5 [(0, .ref o_), (1, .int a0)] := hl
  unfold eX14_times at hd
  refine lv_lconst (pc := 0) (v := 0) hx hb dX14_times_0 (by decide) ?_
  refine lv_lstore_n (pc := 1) (lv' := [(2, .long (0 : Int64)), (0, .ref o_), (1, .int a0)]) hx hb dX14_times_1 rfl hl (by decide) rfl (fun ls hl => ?_)
  refine lv_iconst (pc := 2) (v := 0) hx hb dX14_times_2 (by decide) ?_
  refine lv_istore (pc := 3) (lv' := [(4, .int (0 : Int32)), (2, .long (0 : Int64)), (0, .ref o_), (1, .int a0)]) hx hb dX14_times_3 hl (by decide) rfl (fun ls hl => ?_)
  obtain ⟨w2, hL3, hq4⟩ := wt_bd_o hd
  have hX5 : ∀ w2_ : Int64 × HP, w2_ = w2 → ∀ (H : Heap) (locs : List Loc) (ls : Array Slot), Hw G A w2_.2 H → va_S A s_.heap H locs → lv_has ls 5 [(0, .ref o_), (2, .long w2_.1)] → W p_ l e_ (headSpec (ws_ yX14_times cX14_times 5 none) ({ frames := 1, cells := 0, slots := 0, locals := 20 })).room s_ m_ ([.ref o_, .int a0] : List Value).toArray below_ meth_ c_ H locs 0 0 (MQ below_ (hQv G out_ A) ([.ref o_, .int a0] : List Value).toArray s_ 0 0 A) (F0 m_ 53 ls []) := by
    intro w2_ hw_
    have hd := hq4
    subst hw_
    clear hL3 hq4
    intro H locs ls hW hS hl
    obtain ⟨w29, hL30, hq31⟩ := wt_bd_o hd
    have hX32 : ∀ w29_ : HP, w29_ = w29 → ∀ (H : Heap) (locs : List Loc) (ls : Array Slot), Hw G A w29_ H → va_S A s_.heap H locs → lv_has ls 5 [(0, .ref o_)] → W p_ l e_ (headSpec (ws_ yX14_times cX14_times 5 none) ({ frames := 1, cells := 0, slots := 0, locals := 20 })).room s_ m_ ([.ref o_, .int a0] : List Value).toArray below_ meth_ c_ H locs 0 0 (MQ below_ (hQv G out_ A) ([.ref o_, .int a0] : List Value).toArray s_ 0 0 A) (F0 m_ 93 ls []) := by
      intro w29_ hw_
      have hd := hq31
      subst hw_
      clear hL30 hq31
      intro H locs ls hW hS hl
      refine lv_aload_n (pc := 93) hx hb dX14_times_93 rfl (lv_at hl 0 rfl) ?_
      obtain ⟨h52, hd⟩ := wt_ck_o hd
      obtain ⟨w53, hc54, hd⟩ := wt_bd_o hd
      refine kX14_trim (pc := 94) hx hb hml hown hts hC hW hS h52 hc54 hl.1 (Nat.le_of_ble_eq_true rfl) ⟨Nat.le_of_ble_eq_true rfl, Nat.le_of_ble_eq_true rfl⟩ ⟨Nat.le_of_ble_eq_true rfl, Nat.le_of_ble_eq_true rfl⟩ q1285 dX14_times_94 (fun H locs hW hS => ?_)
      exact hr_vret hx hb hr hlocks (Option.some.inj hd) hW hS dX14_times_97 (Nat.le_of_ble_eq_true rfl) (Nat.le_of_ble_eq_true rfl)
    have hI37 : ∀ (k36 : Nat) (v28 : Int64 × HP), wt_wh (bX14_times_2 o_) k36 v28 = some w29 → ∀ (H : Heap) (locs : List Loc) (ls : Array Slot), Hw G A v28.2 H → va_S A s_.heap H locs → lv_has ls 5 [(0, .ref o_), (2, .long v28.1)] → W p_ l e_ (headSpec (ws_ yX14_times cX14_times 5 none) ({ frames := 1, cells := 0, slots := 0, locals := 20 })).room s_ m_ ([.ref o_, .int a0] : List Value).toArray below_ meth_ c_ H locs 0 0 (MQ below_ (hQv G out_ A) ([.ref o_, .int a0] : List Value).toArray s_ 0 0 A) (F0 m_ 53 ls []) := by
      intro k36
      induction k36 with
      | zero => intro v28 hd; exact absurd hd wt_wh_z
      | succ k36 ih34 =>
        intro v28 hd
        intro H locs ls hW hS hl
        obtain ⟨r35, hd, hk33⟩ := wt_wh_o hd
        unfold bX14_times_2 at hd
        refine lv_lload_n (pc := 53) hx hb dX14_times_53 rfl (lv_at hl 1 rfl) ?_
        refine lv_lconst (pc := 54) (v := 0) hx hb dX14_times_54 (by decide) ?_
        refine W.lcmp (pc := 55) hx hb dX14_times_55 ?_
        refine lv_if_le (pc := 56) (tgt := 93) hx hb dX14_times_56 (by decide) (fun c38 => ?_) (fun c38 => ?_)
        · have hd := wt_it hd c38
          exact hX32 v28.2 (wt_exit hd hk33) _ _ _ hW hS (lv_sub hl [0] rfl)
        · have hd := wt_if hd c38
          refine lv_aload_n (pc := 59) hx hb dX14_times_59 rfl (lv_at hl 0 rfl) ?_
          obtain ⟨ad39, h40, hd⟩ := wt_bd_o hd
          refine hr_get (pc := 60) hx hb hts hown hK hW (hgA_o h40) hf_11_0 (fun _ h => h) q1289 dX14_times_60 ?_
          refine lv_aload_n (pc := 63) hx hb dX14_times_63 rfl (lv_at hl 0 rfl) ?_
          obtain ⟨f41, h42, hd⟩ := wt_bd_o hd
          refine hr_get (pc := 64) hx hb hts hown hK hW (hgI_o h42) hf_11_1 (fun _ h => h) q1290 dX14_times_64 ?_
          refine lv_lload_n (pc := 67) hx hb dX14_times_67 rfl (lv_at hl 1 rfl) ?_
          refine lv_ldc2 (pc := 68) hx hb hown (hts _ q1304) dX14_times_68 ?_
          refine lv_lrem (pc := 71) hx hb dX14_times_71 (by decide) ?_
          refine lv_l2i (pc := 72) hx hb dX14_times_72 rfl ?_
          obtain ⟨z43, h44, hd⟩ := wt_bd_o hd
          obtain ⟨h45, hd⟩ := wt_ck_o hd
          obtain ⟨τ46, eτ46, hd⟩ := wt_lt_o hd
          refine hr_iast (pc := 73) hx hb hK hW hS h44 h45 eτ46 dX14_times_73 (fun H locs hW hS => ?_)
          refine lv_aload_n (pc := 74) hx hb dX14_times_74 rfl (lv_at hl 0 rfl) ?_
          refine lv_dup (pc := 75) hx hb dX14_times_75 rfl ?_
          obtain ⟨f47, h48, hd⟩ := wt_bd_o hd
          refine hr_get (pc := 76) hx hb hts hown hK hW (hgI_o h48) hf_11_1 (fun _ h => h) q1290 dX14_times_76 ?_
          refine lv_iconst (pc := 79) (v := 1) hx hb dX14_times_79 (by decide) ?_
          refine lv_iadd (pc := 80) hx hb dX14_times_80 ?_
          obtain ⟨τ49, h50, hd⟩ := wt_bd_o hd
          refine hr_put (pc := 81) (ty := .int) hx hb hts hown hK hW hS h50 hf_11_1 (by decide +kernel) rfl rfl (fun _ h => h) q1290 dX14_times_81 (fun H locs hW hS => ?_)
          refine lv_lload_n (pc := 84) hx hb dX14_times_84 rfl (lv_at hl 1 rfl) ?_
          refine lv_ldc2 (pc := 85) hx hb hown (hts _ q1304) dX14_times_85 ?_
          refine lv_ldiv (pc := 88) hx hb dX14_times_88 (by decide) ?_
          obtain ⟨n51, en51, hd⟩ := wt_lt_o hd
          refine lv_topel en51 ?_
          refine lv_lstore_n (pc := 89) (lv' := [(2, .long n51), (0, .ref o_)]) hx hb dX14_times_89 rfl hl (by decide) rfl (fun ls hl => ?_)
          refine lv_goto (pc := 90) (tgt := 53) hx hb dX14_times_90 (by decide) ?_
          exact ih34 _ (wt_again hd hk33) _ _ _ hW hS (lv_sub hl [1, 0] rfl)
    obtain ⟨k36, hL30⟩ := wt_whC_o hL30
    exact hI37 k36 _ hL30 _ _ _ hW hS hl
  have hI10 : ∀ (k9 : Nat) (v1 : Int64 × Int32 × HP), wt_wh (bX14_times_1 o_ a0) k9 v1 = some w2 → ∀ (H : Heap) (locs : List Loc) (ls : Array Slot), Hw G A v1.2.2 H → va_S A s_.heap H locs → lv_has ls 5 [(0, .ref o_), (1, .int a0), (2, .long v1.1), (4, .int v1.2.1)] → W p_ l e_ (headSpec (ws_ yX14_times cX14_times 5 none) ({ frames := 1, cells := 0, slots := 0, locals := 20 })).room s_ m_ ([.ref o_, .int a0] : List Value).toArray below_ meth_ c_ H locs 0 0 (MQ below_ (hQv G out_ A) ([.ref o_, .int a0] : List Value).toArray s_ 0 0 A) (F0 m_ 5 ls []) := by
    intro k9
    induction k9 with
    | zero => intro v1 hd; exact absurd hd wt_wh_z
    | succ k9 ih7 =>
      intro v1 hd
      intro H locs ls hW hS hl
      obtain ⟨r8, hd, hk6⟩ := wt_wh_o hd
      unfold bX14_times_1 at hd
      refine lv_iload (pc := 5) hx hb dX14_times_5 (lv_at hl 3 rfl) ?_
      refine lv_aload_n (pc := 7) hx hb dX14_times_7 rfl (lv_at hl 0 rfl) ?_
      obtain ⟨f11, h12, hd⟩ := wt_bd_o hd
      refine hr_get (pc := 8) hx hb hts hown hK hW (hgI_o h12) hf_11_1 (fun _ h => h) q1290 dX14_times_8 ?_
      refine lv_icmp_ge (pc := 11) (tgt := 53) hx hb dX14_times_11 (by decide) (fun c13 => ?_) (fun c13 => ?_)
      · have hd := wt_it hd c13
        exact hX5 (v1.1, v1.2.2) (wt_exit hd hk6) _ _ _ hW hS (lv_sub hl [0, 2] rfl)
      · have hd := wt_if hd c13
        refine lv_lload_n (pc := 14) hx hb dX14_times_14 rfl (lv_at hl 2 rfl) ?_
        refine lv_aload_n (pc := 15) hx hb dX14_times_15 rfl (lv_at hl 0 rfl) ?_
        obtain ⟨ad14, h15, hd⟩ := wt_bd_o hd
        refine hr_get (pc := 16) hx hb hts hown hK hW (hgA_o h15) hf_11_0 (fun _ h => h) q1289 dX14_times_16 ?_
        refine lv_iload (pc := 19) hx hb dX14_times_19 (lv_at hl 3 rfl) ?_
        obtain ⟨z16, h17, hd⟩ := wt_bd_o hd
        obtain ⟨h18, hd⟩ := wt_ck_o hd
        refine hr_iald (pc := 21) hx hb hK hW h17 h18 dX14_times_21 ?_
        refine lv_i2l (pc := 22) hx hb dX14_times_22 rfl ?_
        refine lv_iload_n (pc := 23) hx hb dX14_times_23 rfl (lv_at hl 1 rfl) ?_
        refine lv_i2l (pc := 24) hx hb dX14_times_24 rfl ?_
        refine lv_lmul (pc := 25) hx hb dX14_times_25 ?_
        refine lv_ladd (pc := 26) hx hb dX14_times_26 ?_
        obtain ⟨n19, en19, hd⟩ := wt_lt_o hd
        refine lv_topel en19 ?_
        refine lv_lstore_n (pc := 27) (lv' := [(2, .long n19), (0, .ref o_), (1, .int a0), (4, .int v1.2.1)]) hx hb dX14_times_27 rfl hl (by decide) rfl (fun ls hl => ?_)
        refine lv_aload_n (pc := 28) hx hb dX14_times_28 rfl (lv_at hl 1 rfl) ?_
        obtain ⟨ad20, h21, hd⟩ := wt_bd_o hd
        refine hr_get (pc := 29) hx hb hts hown hK hW (hgA_o h21) hf_11_0 (fun _ h => h) q1289 dX14_times_29 ?_
        refine lv_iload (pc := 32) hx hb dX14_times_32 (lv_at hl 3 rfl) ?_
        refine lv_lload_n (pc := 34) hx hb dX14_times_34 rfl (lv_at hl 0 rfl) ?_
        refine lv_ldc2 (pc := 35) hx hb hown (hts _ q1304) dX14_times_35 ?_
        refine lv_lrem (pc := 38) hx hb dX14_times_38 (by decide) ?_
        refine lv_l2i (pc := 39) hx hb dX14_times_39 rfl ?_
        obtain ⟨z22, h23, hd⟩ := wt_bd_o hd
        obtain ⟨h24, hd⟩ := wt_ck_o hd
        obtain ⟨τ25, eτ25, hd⟩ := wt_lt_o hd
        refine hr_iast (pc := 40) hx hb hK hW hS h23 h24 eτ25 dX14_times_40 (fun H locs hW hS => ?_)
        refine lv_lload_n (pc := 41) hx hb dX14_times_41 rfl (lv_at hl 0 rfl) ?_
        refine lv_ldc2 (pc := 42) hx hb hown (hts _ q1304) dX14_times_42 ?_
        refine lv_ldiv (pc := 45) hx hb dX14_times_45 (by decide) ?_
        obtain ⟨n26, en26, hd⟩ := wt_lt_o hd
        refine lv_topel en26 ?_
        refine lv_lstore_n (pc := 46) (lv' := [(2, .long n26), (0, .ref o_), (1, .int a0), (4, .int v1.2.1)]) hx hb dX14_times_46 rfl hl (by decide) rfl (fun ls hl => ?_)
        obtain ⟨n27, en27, hd⟩ := wt_lt_o hd
        refine lv_iinc (pc := 47) (k := 3) (v := n27) (lv' := [(4, .int n27), (2, .long n26), (0, .ref o_), (1, .int a0)]) hx hb dX14_times_47 hl rfl en27.symm (by decide) rfl (fun ls hl => ?_)
        refine lv_goto (pc := 50) (tgt := 5) hx hb dX14_times_50 (by decide) ?_
        exact ih7 _ (wt_again hd hk6) _ _ _ hW hS (lv_sub hl [2, 3, 1, 0] rfl)
  obtain ⟨k9, hL3⟩ := wt_whC_o hL3
  exact hI10 k9 _ hL3 _ _ _ hW hS (lv_sub hl [2, 3, 1, 0] rfl)
theorem kX14_times {p : Program} {l : Launch} {e : Env} {R : Room} {s : State} {m : MethodId} {args : Array Value} {below : List Frame} {meth : Method} {c : Code} {H : Heap} {locs : List Loc} {cells slots : Nat} {Q : State → Prop} {cc : ByteArray} {pc : Nat} {ls : Array Slot} {rest : List Value} {nL : Nat} {own : String} {index : Nat} {G : HG} {A : Nat → Prop} {τ : HP} {o_ : Nat} {a0 : Int32} {out_ : HP} (hx : p.tables.exec = Jvm.exec) (hb : c.code = cc) (hml : c.maxLocals = nL) (hown : s.vm.findClass own = some m.cls) (hts : ∀ w ∈ lw_all, w.before args s = true) (hC : Hcx G A s) (hW : Hw G A τ H) (hS : va_S A s.heap H locs) (hrc : hcl τ o_ = some 11) (hd : eX14_times τ o_ a0 = some out_) (hsz : ls.size = nL) (hrm : (rest.map fun v => v.category).sum ≤ 8) (hR : 2 ≤ R.frames ∧ 44 ≤ R.locals) (hcs : cells ≤ R.cells ∧ slots ≤ R.slots) (hlk : Cond.methodLink own index yX14_times ∈ lw_all) (hdg : decode cc pc = .ok (.invokevirtual index, 3)) (kk : ∀ (H1 : Heap) (locs1 : List Loc), Hw G A out_ H1 → va_S A s.heap H1 locs1 → W p l e R s m args below meth c H1 locs1 cells slots Q (F0 m (pc + 3) ls (rest))) : W p l e R s m args below meth c H locs cells slots Q (F0 m pc ls (.int a0 :: .ref o_ :: rest)) := by
  refine va_callv (va_runV (As := [.int a0]) (rest := rest) ⟨hx, hb, hml, hown, hts⟩ (wX14_times l hd) (cwV 1 hts (lw_V hlk q1301 q1302 q102 q1303) rfl rfl rfl (by decide +kernel) hR) (hr_preV hC hW hS hrc rfl rfl) rfl rfl hsz rfl (lv_room hrm) hdg hcs) hS (fun _ _ h => h) (fun _ h => h) (fun u t H1 locs1 ht hvm hp hB hz hk hS1 => ?_)
  have hW1 : Hw G A out_ t.heap := hB
  rw [ht] at hW1
  exact kk H1 locs1 hW1 hS1
noncomputable def bX14_by_1 (o_ : Nat) (a0 : Int32) (v4 : Int64 × Int32 × HP) : Option ((Int64 × Int32 × HP) ⊕ (HP)) :=
  if v4.2.1 < 0 then (some (.inr v4.2.2)) else (wt_bd (hgA v4.2.2 o_ [11] 0) fun ad15 => wt_bd (haI v4.2.2 ad15 0) fun z17 => wt_ck (vp_in v4.2.1 z17.1) <| wt_lt (((v4.1 * (10000 : Int64)) + (Int32.toInt64 (z17.2 v4.2.1.toNatClampNeg)))) fun n20 => wt_bd (hgA v4.2.2 o_ [11] 0) fun ad21 => wt_ck (¬ (Int32.toInt64 a0) = 0) <| wt_bd (haI v4.2.2 ad21 0) fun z24 => wt_ck (vp_in v4.2.1 z24.1) <| wt_lt (hst v4.2.2 ad21 (.inl (0, z24.1, .inl (upd z24.2 v4.2.1.toNatClampNeg (Int64.toInt32 (n20 / (Int32.toInt64 a0))))))) fun τ27 => wt_ck (¬ (Int32.toInt64 a0) = 0) <| wt_lt ((n20 - n20 / (Int32.toInt64 a0) * (Int32.toInt64 a0))) fun n29 => wt_lt (v4.2.1 + (-1 : Int32)) fun n30 => some (.inl (n29, n30, τ27)))
noncomputable def eX14_by (τ : HP) (o_ : Nat) (a0 : Int32) : Option (HP) :=
  wt_bd (hgI τ o_ [11] 1) fun f1 => wt_lt ((f1 - (1 : Int32))) fun n3 => wt_bd (wt_whC (bX14_by_1 o_ a0) ((0 : Int64), n3, τ)) fun w5 => wt_ck (hcl w5 o_ = some 11) <| wt_bd (eX14_trim w5 o_) fun w32 => some w32
set_option maxHeartbeats 4000000 in
theorem wX14_by (l : Launch) {G : HG} {A : Nat → Prop} {τ : HP} {o_ : Nat} {a0 : Int32} {out_ : HP} (hd : eX14_by τ o_ a0 = some out_) : Met l yX14_by (ws_ yX14_by cX14_by 5 none) ({ frames := 1, cells := 0, slots := 0, locals := 20 }) (hPc G A τ [.ref o_, .int a0]) (hQv G out_ A) 0 0 A := by
  refine Met.ofW (cc := cX14_by) (maxL := 5) (ret := none) (by decide) rfl ?_
  intro p_ e_ s_ m_ args_ below_ meth_ c_ s₁_ B hml hv
  obtain ⟨rfl, hW, hC⟩ := hv
  have hx := B.exec
  have hb := B.bytes
  have hr := B.returns
  have hts := atoms_spec (ws := (ws_ yX14_by cX14_by 5 none)) B.pre
  have hts : ∀ w ∈ lw_all, w.before _ s_ = true := fun w h => hts w (List.mem_cons_of_mem _ h)
  have hown : s_.vm.findClass RX14 = some m_.cls := findClass_of_methodNamed B.named
  have hlocks := B.notSynchronized
  have hK := hC.1
  have hT := hC.2.1
  have hL := hC.2.2.1
  have hZ := hC.2.2.2.2.1
  have hA := hC.2.2.2.2.2
  have hS : va_S A s_.heap s_.heap [] := va_S.rf
  have hl := lv_entry ([.ref o_, .int a0]) (n := 5) (Nat.le_of_ble_eq_true rfl)
  rw [lg_entry_eq]
  generalize (lg_sl ([.ref o_, .int a0]) ++ List.replicate (5 - (lg_sl ([.ref o_, .int a0])).length) Slot.unset).toArray = ls at hl ⊢
  have hl : lv_has ls 5 [(0, .ref o_), (1, .int a0)] := hl
  unfold eX14_by at hd
  refine lv_lconst (pc := 0) (v := 0) hx hb dX14_by_0 (by decide) ?_
  refine lv_lstore_n (pc := 1) (lv' := [(2, .long (0 : Int64)), (0, .ref o_), (1, .int a0)]) hx hb dX14_by_1 rfl hl (by decide) rfl (fun ls hl => ?_)
  refine lv_aload_n (pc := 2) hx hb dX14_by_2 rfl (lv_at hl 1 rfl) ?_
  obtain ⟨f1, h2, hd⟩ := wt_bd_o hd
  refine hr_get (pc := 3) hx hb hts hown hK hW (hgI_o h2) hf_11_1 (fun _ h => h) q1290 dX14_by_3 ?_
  refine lv_iconst (pc := 6) (v := 1) hx hb dX14_by_6 (by decide) ?_
  refine lv_isub (pc := 7) hx hb dX14_by_7 ?_
  obtain ⟨n3, en3, hd⟩ := wt_lt_o hd
  refine lv_tope en3 ?_
  refine lv_istore (pc := 8) (lv' := [(4, .int n3), (2, .long (0 : Int64)), (0, .ref o_), (1, .int a0)]) hx hb dX14_by_8 hl (by decide) rfl (fun ls hl => ?_)
  obtain ⟨w5, hL6, hq7⟩ := wt_bd_o hd
  have hX8 : ∀ w5_ : HP, w5_ = w5 → ∀ (H : Heap) (locs : List Loc) (ls : Array Slot), Hw G A w5_ H → va_S A s_.heap H locs → lv_has ls 5 [(0, .ref o_)] → W p_ l e_ (headSpec (ws_ yX14_by cX14_by 5 none) ({ frames := 1, cells := 0, slots := 0, locals := 20 })).room s_ m_ ([.ref o_, .int a0] : List Value).toArray below_ meth_ c_ H locs 0 0 (MQ below_ (hQv G out_ A) ([.ref o_, .int a0] : List Value).toArray s_ 0 0 A) (F0 m_ 53 ls []) := by
    intro w5_ hw_
    have hd := hq7
    subst hw_
    clear hL6 hq7
    intro H locs ls hW hS hl
    refine lv_aload_n (pc := 53) hx hb dX14_by_53 rfl (lv_at hl 0 rfl) ?_
    obtain ⟨h31, hd⟩ := wt_ck_o hd
    obtain ⟨w32, hc33, hd⟩ := wt_bd_o hd
    refine kX14_trim (pc := 54) hx hb hml hown hts hC hW hS h31 hc33 hl.1 (Nat.le_of_ble_eq_true rfl) ⟨Nat.le_of_ble_eq_true rfl, Nat.le_of_ble_eq_true rfl⟩ ⟨Nat.le_of_ble_eq_true rfl, Nat.le_of_ble_eq_true rfl⟩ q1285 dX14_by_54 (fun H locs hW hS => ?_)
    exact hr_vret hx hb hr hlocks (Option.some.inj hd) hW hS dX14_by_57 (Nat.le_of_ble_eq_true rfl) (Nat.le_of_ble_eq_true rfl)
  have hI13 : ∀ (k12 : Nat) (v4 : Int64 × Int32 × HP), wt_wh (bX14_by_1 o_ a0) k12 v4 = some w5 → ∀ (H : Heap) (locs : List Loc) (ls : Array Slot), Hw G A v4.2.2 H → va_S A s_.heap H locs → lv_has ls 5 [(0, .ref o_), (1, .int a0), (2, .long v4.1), (4, .int v4.2.1)] → W p_ l e_ (headSpec (ws_ yX14_by cX14_by 5 none) ({ frames := 1, cells := 0, slots := 0, locals := 20 })).room s_ m_ ([.ref o_, .int a0] : List Value).toArray below_ meth_ c_ H locs 0 0 (MQ below_ (hQv G out_ A) ([.ref o_, .int a0] : List Value).toArray s_ 0 0 A) (F0 m_ 10 ls []) := by
    intro k12
    induction k12 with
    | zero => intro v4 hd; exact absurd hd wt_wh_z
    | succ k12 ih10 =>
      intro v4 hd
      intro H locs ls hW hS hl
      obtain ⟨r11, hd, hk9⟩ := wt_wh_o hd
      unfold bX14_by_1 at hd
      refine lv_iload (pc := 10) hx hb dX14_by_10 (lv_at hl 3 rfl) ?_
      refine lv_if_lt (pc := 12) (tgt := 53) hx hb dX14_by_12 (by decide) (fun c14 => ?_) (fun c14 => ?_)
      · have hd := wt_it hd c14
        exact hX8 v4.2.2 (wt_exit hd hk9) _ _ _ hW hS (lv_sub hl [0] rfl)
      · have hd := wt_if hd c14
        refine lv_lload_n (pc := 15) hx hb dX14_by_15 rfl (lv_at hl 2 rfl) ?_
        refine lv_ldc2 (pc := 16) hx hb hown (hts _ q1304) dX14_by_16 ?_
        refine lv_lmul (pc := 19) hx hb dX14_by_19 ?_
        refine lv_aload_n (pc := 20) hx hb dX14_by_20 rfl (lv_at hl 0 rfl) ?_
        obtain ⟨ad15, h16, hd⟩ := wt_bd_o hd
        refine hr_get (pc := 21) hx hb hts hown hK hW (hgA_o h16) hf_11_0 (fun _ h => h) q1289 dX14_by_21 ?_
        refine lv_iload (pc := 24) hx hb dX14_by_24 (lv_at hl 3 rfl) ?_
        obtain ⟨z17, h18, hd⟩ := wt_bd_o hd
        obtain ⟨h19, hd⟩ := wt_ck_o hd
        refine hr_iald (pc := 26) hx hb hK hW h18 h19 dX14_by_26 ?_
        refine lv_i2l (pc := 27) hx hb dX14_by_27 rfl ?_
        refine lv_ladd (pc := 28) hx hb dX14_by_28 ?_
        obtain ⟨n20, en20, hd⟩ := wt_lt_o hd
        refine lv_topel en20 ?_
        refine lv_lstore_n (pc := 29) (lv' := [(2, .long n20), (0, .ref o_), (1, .int a0), (4, .int v4.2.1)]) hx hb dX14_by_29 rfl hl (by decide) rfl (fun ls hl => ?_)
        refine lv_aload_n (pc := 30) hx hb dX14_by_30 rfl (lv_at hl 1 rfl) ?_
        obtain ⟨ad21, h22, hd⟩ := wt_bd_o hd
        refine hr_get (pc := 31) hx hb hts hown hK hW (hgA_o h22) hf_11_0 (fun _ h => h) q1289 dX14_by_31 ?_
        refine lv_iload (pc := 34) hx hb dX14_by_34 (lv_at hl 3 rfl) ?_
        refine lv_lload_n (pc := 36) hx hb dX14_by_36 rfl (lv_at hl 0 rfl) ?_
        refine lv_iload_n (pc := 37) hx hb dX14_by_37 rfl (lv_at hl 2 rfl) ?_
        refine lv_i2l (pc := 38) hx hb dX14_by_38 rfl ?_
        obtain ⟨h23, hd⟩ := wt_ck_o hd
        refine lv_ldiv (pc := 39) hx hb dX14_by_39 h23 ?_
        refine lv_l2i (pc := 40) hx hb dX14_by_40 rfl ?_
        obtain ⟨z24, h25, hd⟩ := wt_bd_o hd
        obtain ⟨h26, hd⟩ := wt_ck_o hd
        obtain ⟨τ27, eτ27, hd⟩ := wt_lt_o hd
        refine hr_iast (pc := 41) hx hb hK hW hS h25 h26 eτ27 dX14_by_41 (fun H locs hW hS => ?_)
        refine lv_lload_n (pc := 42) hx hb dX14_by_42 rfl (lv_at hl 0 rfl) ?_
        refine lv_iload_n (pc := 43) hx hb dX14_by_43 rfl (lv_at hl 2 rfl) ?_
        refine lv_i2l (pc := 44) hx hb dX14_by_44 rfl ?_
        obtain ⟨h28, hd⟩ := wt_ck_o hd
        refine lv_lrem (pc := 45) hx hb dX14_by_45 h28 ?_
        obtain ⟨n29, en29, hd⟩ := wt_lt_o hd
        refine lv_topel en29 ?_
        refine lv_lstore_n (pc := 46) (lv' := [(2, .long n29), (0, .ref o_), (1, .int a0), (4, .int v4.2.1)]) hx hb dX14_by_46 rfl hl (by decide) rfl (fun ls hl => ?_)
        obtain ⟨n30, en30, hd⟩ := wt_lt_o hd
        refine lv_iinc (pc := 47) (k := 3) (v := n30) (lv' := [(4, .int n30), (2, .long n29), (0, .ref o_), (1, .int a0)]) hx hb dX14_by_47 hl rfl en30.symm (by decide) rfl (fun ls hl => ?_)
        refine lv_goto (pc := 50) (tgt := 10) hx hb dX14_by_50 (by decide) ?_
        exact ih10 _ (wt_again hd hk9) _ _ _ hW hS (lv_sub hl [2, 3, 1, 0] rfl)
  obtain ⟨k12, hL6⟩ := wt_whC_o hL6
  exact hI13 k12 _ hL6 _ _ _ hW hS (lv_sub hl [2, 3, 1, 0] rfl)
theorem kX14_by {p : Program} {l : Launch} {e : Env} {R : Room} {s : State} {m : MethodId} {args : Array Value} {below : List Frame} {meth : Method} {c : Code} {H : Heap} {locs : List Loc} {cells slots : Nat} {Q : State → Prop} {cc : ByteArray} {pc : Nat} {ls : Array Slot} {rest : List Value} {nL : Nat} {own : String} {index : Nat} {G : HG} {A : Nat → Prop} {τ : HP} {o_ : Nat} {a0 : Int32} {out_ : HP} (hx : p.tables.exec = Jvm.exec) (hb : c.code = cc) (hml : c.maxLocals = nL) (hown : s.vm.findClass own = some m.cls) (hts : ∀ w ∈ lw_all, w.before args s = true) (hC : Hcx G A s) (hW : Hw G A τ H) (hS : va_S A s.heap H locs) (hrc : hcl τ o_ = some 11) (hd : eX14_by τ o_ a0 = some out_) (hsz : ls.size = nL) (hrm : (rest.map fun v => v.category).sum ≤ 8) (hR : 2 ≤ R.frames ∧ 44 ≤ R.locals) (hcs : cells ≤ R.cells ∧ slots ≤ R.slots) (hlk : Cond.methodLink own index yX14_by ∈ lw_all) (hdg : decode cc pc = .ok (.invokevirtual index, 3)) (kk : ∀ (H1 : Heap) (locs1 : List Loc), Hw G A out_ H1 → va_S A s.heap H1 locs1 → W p l e R s m args below meth c H1 locs1 cells slots Q (F0 m (pc + 3) ls (rest))) : W p l e R s m args below meth c H locs cells slots Q (F0 m pc ls (.int a0 :: .ref o_ :: rest)) := by
  refine va_callv (va_runV (As := [.int a0]) (rest := rest) ⟨hx, hb, hml, hown, hts⟩ (wX14_by l hd) (cwV 1 hts (lw_V hlk q1306 q1307 q102 q1308) rfl rfl rfl (by decide +kernel) hR) (hr_preV hC hW hS hrc rfl rfl) rfl rfl hsz rfl (lv_room hrm) hdg hcs) hS (fun _ _ h => h) (fun _ h => h) (fun u t H1 locs1 ht hvm hp hB hz hk hS1 => ?_)
  have hW1 : Hw G A out_ t.heap := hB
  rw [ht] at hW1
  exact kk H1 locs1 hW1 hS1
noncomputable def eX14_digits (τ : HP) (o_ : Nat) : Option (Int32) :=
  wt_bd (hgA τ o_ [11] 0) fun ad1 => wt_bd (hgI τ o_ [11] 1) fun f3 => wt_bd (haI τ ad1 0) fun z5 => wt_ck (vp_in (f3 - (1 : Int32)) z5.1) <| wt_lt ((z5.2 (f3 - (1 : Int32)).toNatClampNeg)) fun n8 => wt_bd (hgI τ o_ [11] 1) fun f9 => if n8 ≤ (999 : Int32) then (if n8 ≤ (99 : Int32) then (if n8 ≤ (9 : Int32) then (some (((4 : Int32) * (f9 - (1 : Int32))) + (1 : Int32))) else (some (((4 : Int32) * (f9 - (1 : Int32))) + (2 : Int32)))) else (some (((4 : Int32) * (f9 - (1 : Int32))) + (3 : Int32)))) else (some (((4 : Int32) * (f9 - (1 : Int32))) + (4 : Int32)))
set_option maxHeartbeats 4000000 in
theorem wX14_digits (l : Launch) {G : HG} {A : Nat → Prop} {τ : HP} {o_ : Nat} {out_ : Int32} (hd : eX14_digits τ o_ = some out_) : Met l yX14_digits (ws_ yX14_digits cX14_digits 2 (some .int)) ({ frames := 0, cells := 0, slots := 0, locals := 0 }) (hPc G A τ [.ref o_]) (hQi G out_ τ A) 0 0 A := by
  refine Met.ofW (cc := cX14_digits) (maxL := 2) (ret := (some .int)) (by decide) rfl ?_
  intro p_ e_ s_ m_ args_ below_ meth_ c_ s₁_ B hml hv
  obtain ⟨rfl, hW, hC⟩ := hv
  have hx := B.exec
  have hb := B.bytes
  have hr := B.returns
  have hts := atoms_spec (ws := (ws_ yX14_digits cX14_digits 2 (some .int))) B.pre
  have hts : ∀ w ∈ lw_all, w.before _ s_ = true := fun w h => hts w (List.mem_cons_of_mem _ h)
  have hown : s_.vm.findClass RX14 = some m_.cls := findClass_of_methodNamed B.named
  have hlocks := B.notSynchronized
  have hK := hC.1
  have hT := hC.2.1
  have hL := hC.2.2.1
  have hZ := hC.2.2.2.2.1
  have hA := hC.2.2.2.2.2
  have hS : va_S A s_.heap s_.heap [] := va_S.rf
  have hl := lv_entry ([.ref o_]) (n := 2) (Nat.le_of_ble_eq_true rfl)
  rw [lg_entry_eq]
  generalize (lg_sl ([.ref o_]) ++ List.replicate (2 - (lg_sl ([.ref o_])).length) Slot.unset).toArray = ls at hl ⊢
  have hl : lv_has ls 2 [(0, .ref o_)] := hl
  unfold eX14_digits at hd
  refine lv_aload_n (pc := 0) hx hb dX14_digits_0 rfl (lv_at hl 0 rfl) ?_
  obtain ⟨ad1, h2, hd⟩ := wt_bd_o hd
  refine hr_get (pc := 1) hx hb hts hown hK hW (hgA_o h2) hf_11_0 (fun _ h => h) q1289 dX14_digits_1 ?_
  refine lv_aload_n (pc := 4) hx hb dX14_digits_4 rfl (lv_at hl 0 rfl) ?_
  obtain ⟨f3, h4, hd⟩ := wt_bd_o hd
  refine hr_get (pc := 5) hx hb hts hown hK hW (hgI_o h4) hf_11_1 (fun _ h => h) q1290 dX14_digits_5 ?_
  refine lv_iconst (pc := 8) (v := 1) hx hb dX14_digits_8 (by decide) ?_
  refine lv_isub (pc := 9) hx hb dX14_digits_9 ?_
  obtain ⟨z5, h6, hd⟩ := wt_bd_o hd
  obtain ⟨h7, hd⟩ := wt_ck_o hd
  refine hr_iald (pc := 10) hx hb hK hW h6 h7 dX14_digits_10 ?_
  obtain ⟨n8, en8, hd⟩ := wt_lt_o hd
  refine lv_tope en8 ?_
  refine lv_istore_n (pc := 11) (lv' := [(1, .int n8), (0, .ref o_)]) hx hb dX14_digits_11 rfl hl (by decide) rfl (fun ls hl => ?_)
  refine lv_iconst (pc := 12) (v := 4) hx hb dX14_digits_12 (by decide) ?_
  refine lv_aload_n (pc := 13) hx hb dX14_digits_13 rfl (lv_at hl 1 rfl) ?_
  obtain ⟨f9, h10, hd⟩ := wt_bd_o hd
  refine hr_get (pc := 14) hx hb hts hown hK hW (hgI_o h10) hf_11_1 (fun _ h => h) q1290 dX14_digits_14 ?_
  refine lv_iconst (pc := 17) (v := 1) hx hb dX14_digits_17 (by decide) ?_
  refine lv_isub (pc := 18) hx hb dX14_digits_18 ?_
  refine lv_imul (pc := 19) hx hb dX14_digits_19 ?_
  refine lv_iload_n (pc := 20) hx hb dX14_digits_20 rfl (lv_at hl 0 rfl) ?_
  refine lv_sipush (pc := 21) (v := 999) hx hb dX14_digits_21 (by decide) ?_
  refine lv_icmp_le (pc := 24) (tgt := 31) hx hb dX14_digits_24 (by decide) (fun c11 => ?_) (fun c11 => ?_)
  · have hd := wt_it hd c11
    refine lv_iload_n (pc := 31) hx hb dX14_digits_31 rfl (lv_at hl 0 rfl) ?_
    refine lv_bipush (pc := 32) (v := 99) hx hb dX14_digits_32 (by decide) ?_
    refine lv_icmp_le (pc := 34) (tgt := 41) hx hb dX14_digits_34 (by decide) (fun c12 => ?_) (fun c12 => ?_)
    · have hd := wt_it hd c12
      refine lv_iload_n (pc := 41) hx hb dX14_digits_41 rfl (lv_at hl 0 rfl) ?_
      refine lv_bipush (pc := 42) (v := 9) hx hb dX14_digits_42 (by decide) ?_
      refine lv_icmp_le (pc := 44) (tgt := 51) hx hb dX14_digits_44 (by decide) (fun c13 => ?_) (fun c13 => ?_)
      · have hd := wt_it hd c13
        refine lv_iconst (pc := 51) (v := 1) hx hb dX14_digits_51 (by decide) ?_
        refine lv_iadd (pc := 52) hx hb dX14_digits_52 ?_
        exact hr_iret hx hb hr rfl hlocks (Option.some.inj hd) rfl hW hS dX14_digits_53 (Nat.le_of_ble_eq_true rfl) (Nat.le_of_ble_eq_true rfl)
      · have hd := wt_if hd c13
        refine lv_iconst (pc := 47) (v := 2) hx hb dX14_digits_47 (by decide) ?_
        refine lv_goto (pc := 48) (tgt := 52) hx hb dX14_digits_48 (by decide) ?_
        refine lv_iadd (pc := 52) hx hb dX14_digits_52 ?_
        exact hr_iret hx hb hr rfl hlocks (Option.some.inj hd) rfl hW hS dX14_digits_53 (Nat.le_of_ble_eq_true rfl) (Nat.le_of_ble_eq_true rfl)
    · have hd := wt_if hd c12
      refine lv_iconst (pc := 37) (v := 3) hx hb dX14_digits_37 (by decide) ?_
      refine lv_goto (pc := 38) (tgt := 52) hx hb dX14_digits_38 (by decide) ?_
      refine lv_iadd (pc := 52) hx hb dX14_digits_52 ?_
      exact hr_iret hx hb hr rfl hlocks (Option.some.inj hd) rfl hW hS dX14_digits_53 (Nat.le_of_ble_eq_true rfl) (Nat.le_of_ble_eq_true rfl)
  · have hd := wt_if hd c11
    refine lv_iconst (pc := 27) (v := 4) hx hb dX14_digits_27 (by decide) ?_
    refine lv_goto (pc := 28) (tgt := 52) hx hb dX14_digits_28 (by decide) ?_
    refine lv_iadd (pc := 52) hx hb dX14_digits_52 ?_
    exact hr_iret hx hb hr rfl hlocks (Option.some.inj hd) rfl hW hS dX14_digits_53 (Nat.le_of_ble_eq_true rfl) (Nat.le_of_ble_eq_true rfl)
theorem kX14_digits {p : Program} {l : Launch} {e : Env} {R : Room} {s : State} {m : MethodId} {args : Array Value} {below : List Frame} {meth : Method} {c : Code} {H : Heap} {locs : List Loc} {cells slots : Nat} {Q : State → Prop} {cc : ByteArray} {pc : Nat} {ls : Array Slot} {rest : List Value} {nL : Nat} {own : String} {index : Nat} {G : HG} {A : Nat → Prop} {τ : HP} {o_ : Nat} {out_ : Int32} (hx : p.tables.exec = Jvm.exec) (hb : c.code = cc) (hml : c.maxLocals = nL) (hown : s.vm.findClass own = some m.cls) (hts : ∀ w ∈ lw_all, w.before args s = true) (hC : Hcx G A s) (hW : Hw G A τ H) (hS : va_S A s.heap H locs) (hrc : hcl τ o_ = some 11) (hd : eX14_digits τ o_ = some out_) (hsz : ls.size = nL) (hrm : (rest.map fun v => v.category).sum ≤ 8) (hR : 1 ≤ R.frames ∧ 21 ≤ R.locals) (hcs : cells ≤ R.cells ∧ slots ≤ R.slots) (hlk : Cond.methodLink own index yX14_digits ∈ lw_all) (hdg : decode cc pc = .ok (.invokevirtual index, 3)) (kk : ∀ (H1 : Heap) (locs1 : List Loc), Hw G A τ H1 → va_S A s.heap H1 locs1 → W p l e R s m args below meth c H1 locs1 cells slots Q (F0 m (pc + 3) ls (.int out_ :: rest))) : W p l e R s m args below meth c H locs cells slots Q (F0 m pc ls (.ref o_ :: rest)) := by
  refine va_calli (va_runV (As := []) (rest := rest) ⟨hx, hb, hml, hown, hts⟩ (wX14_digits l hd) (cwV 0 hts (lw_V hlk q1310 q1311 q102 q1312) rfl rfl rfl (by decide +kernel) hR) (hr_preV hC hW hS hrc rfl rfl) rfl rfl hsz rfl (lv_room hrm) hdg hcs) hS (fun _ _ h => h) (fun _ h => h) (fun r u t H1 locs1 ht hvm hp hB hz hk hS1 => ?_)
  have hp : r = out_ := hp
  subst hp
  have hW1 : Hw G A τ t.heap := hB
  rw [ht] at hW1
  exact kk H1 locs1 hW1 hS1
noncomputable def bX14_digit_1 (a0 : Int32) (v7 : Int32 × Int32) : Option ((Int32 × Int32) ⊕ (Int32)) :=
  if (a0 - a0 / (4 : Int32) * (4 : Int32)) ≤ v7.2 then (some (.inr v7.1)) else (wt_lt ((v7.1 / (10 : Int32))) fun n18 => wt_lt (v7.2 + (1 : Int32)) fun n19 => some (.inl (n18, n19)))
noncomputable def eX14_digit (τ : HP) (o_ : Nat) (a0 : Int32) : Option (Int32) :=
  wt_bd (hgA τ o_ [11] 0) fun ad1 => wt_bd (haI τ ad1 0) fun z3 => wt_ck (vp_in (a0 / (4 : Int32)) z3.1) <| wt_lt ((z3.2 (a0 / (4 : Int32)).toNatClampNeg)) fun n6 => wt_bd (wt_whC (bX14_digit_1 a0) (n6, (0 : Int32))) fun w8 => some (w8 - w8 / (10 : Int32) * (10 : Int32))
set_option maxHeartbeats 4000000 in
theorem wX14_digit (l : Launch) {G : HG} {A : Nat → Prop} {τ : HP} {o_ : Nat} {a0 : Int32} {out_ : Int32} (hd : eX14_digit τ o_ a0 = some out_) : Met l yX14_digit (ws_ yX14_digit cX14_digit 4 (some .int)) ({ frames := 0, cells := 0, slots := 0, locals := 0 }) (hPc G A τ [.ref o_, .int a0]) (hQi G out_ τ A) 0 0 A := by
  refine Met.ofW (cc := cX14_digit) (maxL := 4) (ret := (some .int)) (by decide) rfl ?_
  intro p_ e_ s_ m_ args_ below_ meth_ c_ s₁_ B hml hv
  obtain ⟨rfl, hW, hC⟩ := hv
  have hx := B.exec
  have hb := B.bytes
  have hr := B.returns
  have hts := atoms_spec (ws := (ws_ yX14_digit cX14_digit 4 (some .int))) B.pre
  have hts : ∀ w ∈ lw_all, w.before _ s_ = true := fun w h => hts w (List.mem_cons_of_mem _ h)
  have hown : s_.vm.findClass RX14 = some m_.cls := findClass_of_methodNamed B.named
  have hlocks := B.notSynchronized
  have hK := hC.1
  have hT := hC.2.1
  have hL := hC.2.2.1
  have hZ := hC.2.2.2.2.1
  have hA := hC.2.2.2.2.2
  have hS : va_S A s_.heap s_.heap [] := va_S.rf
  have hl := lv_entry ([.ref o_, .int a0]) (n := 4) (Nat.le_of_ble_eq_true rfl)
  rw [lg_entry_eq]
  generalize (lg_sl ([.ref o_, .int a0]) ++ List.replicate (4 - (lg_sl ([.ref o_, .int a0])).length) Slot.unset).toArray = ls at hl ⊢
  have hl : lv_has ls 4 [(0, .ref o_), (1, .int a0)] := hl
  unfold eX14_digit at hd
  refine lv_aload_n (pc := 0) hx hb dX14_digit_0 rfl (lv_at hl 0 rfl) ?_
  obtain ⟨ad1, h2, hd⟩ := wt_bd_o hd
  refine hr_get (pc := 1) hx hb hts hown hK hW (hgA_o h2) hf_11_0 (fun _ h => h) q1289 dX14_digit_1 ?_
  refine lv_iload_n (pc := 4) hx hb dX14_digit_4 rfl (lv_at hl 1 rfl) ?_
  refine lv_iconst (pc := 5) (v := 4) hx hb dX14_digit_5 (by decide) ?_
  refine lv_idiv (pc := 6) hx hb dX14_digit_6 (by decide) ?_
  obtain ⟨z3, h4, hd⟩ := wt_bd_o hd
  obtain ⟨h5, hd⟩ := wt_ck_o hd
  refine hr_iald (pc := 7) hx hb hK hW h4 h5 dX14_digit_7 ?_
  obtain ⟨n6, en6, hd⟩ := wt_lt_o hd
  refine lv_tope en6 ?_
  refine lv_istore_n (pc := 8) (lv' := [(2, .int n6), (0, .ref o_), (1, .int a0)]) hx hb dX14_digit_8 rfl hl (by decide) rfl (fun ls hl => ?_)
  refine lv_iconst (pc := 9) (v := 0) hx hb dX14_digit_9 (by decide) ?_
  refine lv_istore_n (pc := 10) (lv' := [(3, .int (0 : Int32)), (2, .int n6), (0, .ref o_), (1, .int a0)]) hx hb dX14_digit_10 rfl hl (by decide) rfl (fun ls hl => ?_)
  obtain ⟨w8, hL9, hq10⟩ := wt_bd_o hd
  have hX11 : ∀ w8_ : Int32, w8_ = w8 → ∀ (H : Heap) (locs : List Loc) (ls : Array Slot), Hw G A τ H → va_S A s_.heap H locs → lv_has ls 4 [(2, .int w8_)] → W p_ l e_ (headSpec (ws_ yX14_digit cX14_digit 4 (some .int)) ({ frames := 0, cells := 0, slots := 0, locals := 0 })).room s_ m_ ([.ref o_, .int a0] : List Value).toArray below_ meth_ c_ H locs 0 0 (MQ below_ (hQi G out_ τ A) ([.ref o_, .int a0] : List Value).toArray s_ 0 0 A) (F0 m_ 29 ls []) := by
    intro w8_ hw_
    have hd := hq10
    subst hw_
    clear hL9 hq10
    intro H locs ls hW hS hl
    refine lv_iload_n (pc := 29) hx hb dX14_digit_29 rfl (lv_at hl 0 rfl) ?_
    refine lv_bipush (pc := 30) (v := 10) hx hb dX14_digit_30 (by decide) ?_
    refine lv_irem (pc := 32) hx hb dX14_digit_32 (by decide) ?_
    exact hr_iret hx hb hr rfl hlocks (Option.some.inj hd) rfl hW hS dX14_digit_33 (Nat.le_of_ble_eq_true rfl) (Nat.le_of_ble_eq_true rfl)
  have hI16 : ∀ (k15 : Nat) (v7 : Int32 × Int32), wt_wh (bX14_digit_1 a0) k15 v7 = some w8 → ∀ (H : Heap) (locs : List Loc) (ls : Array Slot), Hw G A τ H → va_S A s_.heap H locs → lv_has ls 4 [(1, .int a0), (2, .int v7.1), (3, .int v7.2)] → W p_ l e_ (headSpec (ws_ yX14_digit cX14_digit 4 (some .int)) ({ frames := 0, cells := 0, slots := 0, locals := 0 })).room s_ m_ ([.ref o_, .int a0] : List Value).toArray below_ meth_ c_ H locs 0 0 (MQ below_ (hQi G out_ τ A) ([.ref o_, .int a0] : List Value).toArray s_ 0 0 A) (F0 m_ 11 ls []) := by
    intro k15
    induction k15 with
    | zero => intro v7 hd; exact absurd hd wt_wh_z
    | succ k15 ih13 =>
      intro v7 hd
      intro H locs ls hW hS hl
      obtain ⟨r14, hd, hk12⟩ := wt_wh_o hd
      unfold bX14_digit_1 at hd
      refine lv_iload_n (pc := 11) hx hb dX14_digit_11 rfl (lv_at hl 2 rfl) ?_
      refine lv_iload_n (pc := 12) hx hb dX14_digit_12 rfl (lv_at hl 0 rfl) ?_
      refine lv_iconst (pc := 13) (v := 4) hx hb dX14_digit_13 (by decide) ?_
      refine lv_irem (pc := 14) hx hb dX14_digit_14 (by decide) ?_
      refine lv_icmp_ge (pc := 15) (tgt := 29) hx hb dX14_digit_15 (by decide) (fun c17 => ?_) (fun c17 => ?_)
      · have hd := wt_it hd c17
        exact hX11 v7.1 (wt_exit hd hk12) _ _ _ hW hS (lv_sub hl [1] rfl)
      · have hd := wt_if hd c17
        refine lv_iload_n (pc := 18) hx hb dX14_digit_18 rfl (lv_at hl 1 rfl) ?_
        refine lv_bipush (pc := 19) (v := 10) hx hb dX14_digit_19 (by decide) ?_
        refine lv_idiv (pc := 21) hx hb dX14_digit_21 (by decide) ?_
        obtain ⟨n18, en18, hd⟩ := wt_lt_o hd
        refine lv_tope en18 ?_
        refine lv_istore_n (pc := 22) (lv' := [(2, .int n18), (1, .int a0), (3, .int v7.2)]) hx hb dX14_digit_22 rfl hl (by decide) rfl (fun ls hl => ?_)
        obtain ⟨n19, en19, hd⟩ := wt_lt_o hd
        refine lv_iinc (pc := 23) (k := 2) (v := n19) (lv' := [(3, .int n19), (2, .int n18), (1, .int a0)]) hx hb dX14_digit_23 hl rfl en19.symm (by decide) rfl (fun ls hl => ?_)
        refine lv_goto (pc := 26) (tgt := 11) hx hb dX14_digit_26 (by decide) ?_
        exact ih13 _ (wt_again hd hk12) _ _ _ hW hS (lv_sub hl [2, 1, 0] rfl)
  obtain ⟨k15, hL9⟩ := wt_whC_o hL9
  exact hI16 k15 _ hL9 _ _ _ hW hS (lv_sub hl [3, 1, 0] rfl)
theorem kX14_digit {p : Program} {l : Launch} {e : Env} {R : Room} {s : State} {m : MethodId} {args : Array Value} {below : List Frame} {meth : Method} {c : Code} {H : Heap} {locs : List Loc} {cells slots : Nat} {Q : State → Prop} {cc : ByteArray} {pc : Nat} {ls : Array Slot} {rest : List Value} {nL : Nat} {own : String} {index : Nat} {G : HG} {A : Nat → Prop} {τ : HP} {o_ : Nat} {a0 : Int32} {out_ : Int32} (hx : p.tables.exec = Jvm.exec) (hb : c.code = cc) (hml : c.maxLocals = nL) (hown : s.vm.findClass own = some m.cls) (hts : ∀ w ∈ lw_all, w.before args s = true) (hC : Hcx G A s) (hW : Hw G A τ H) (hS : va_S A s.heap H locs) (hrc : hcl τ o_ = some 11) (hd : eX14_digit τ o_ a0 = some out_) (hsz : ls.size = nL) (hrm : (rest.map fun v => v.category).sum ≤ 8) (hR : 1 ≤ R.frames ∧ 23 ≤ R.locals) (hcs : cells ≤ R.cells ∧ slots ≤ R.slots) (hlk : Cond.methodLink own index yX14_digit ∈ lw_all) (hdg : decode cc pc = .ok (.invokevirtual index, 3)) (kk : ∀ (H1 : Heap) (locs1 : List Loc), Hw G A τ H1 → va_S A s.heap H1 locs1 → W p l e R s m args below meth c H1 locs1 cells slots Q (F0 m (pc + 3) ls (.int out_ :: rest))) : W p l e R s m args below meth c H locs cells slots Q (F0 m pc ls (.int a0 :: .ref o_ :: rest)) := by
  refine va_calli (va_runV (As := [.int a0]) (rest := rest) ⟨hx, hb, hml, hown, hts⟩ (wX14_digit l hd) (cwV 1 hts (lw_V hlk q1321 q1322 q102 q1323) rfl rfl rfl (by decide +kernel) hR) (hr_preV hC hW hS hrc rfl rfl) rfl rfl hsz rfl (lv_room hrm) hdg hcs) hS (fun _ _ h => h) (fun _ h => h) (fun r u t H1 locs1 ht hvm hp hB hz hk hS1 => ?_)
  have hp : r = out_ := hp
  subst hp
  have hW1 : Hw G A τ t.heap := hB
  rw [ht] at hW1
  exact kk H1 locs1 hW1 hS1
noncomputable def bX14_compareTo_1 (τ : HP) (o_ : Nat) (a0 : Nat) (v9 : Int32) : Option ((Int32) ⊕ ((Unit) ⊕ (Int32))) :=
  if v9 < 0 then (some (.inr (.inl ()))) else (wt_bd (hgA τ o_ [11] 0) fun ad20 => wt_bd (haI τ ad20 0) fun z22 => wt_ck (vp_in v9 z22.1) <| wt_bd (hgA τ a0 [11] 0) fun ad25 => wt_bd (haI τ ad25 0) fun z27 => wt_ck (vp_in v9 z27.1) <| if (z22.2 v9.toNatClampNeg) = (z27.2 v9.toNatClampNeg) then (wt_lt (v9 + (-1 : Int32)) fun n31 => some (.inl n31)) else (wt_bd (hgA τ o_ [11] 0) fun ad32 => wt_bd (haI τ ad32 0) fun z34 => wt_ck (vp_in v9 z34.1) <| wt_bd (hgA τ a0 [11] 0) fun ad37 => wt_bd (haI τ ad37 0) fun z39 => wt_ck (vp_in v9 z39.1) <| if (z34.2 v9.toNatClampNeg) ≤ (z39.2 v9.toNatClampNeg) then (some (.inr (.inr (-1 : Int32)))) else (some (.inr (.inr (1 : Int32))))))
noncomputable def eX14_compareTo (τ : HP) (o_ : Nat) (a0 : Nat) : Option (Int32) :=
  wt_bd (hgI τ o_ [11] 1) fun f1 => wt_bd (hgI τ a0 [11] 1) fun f3 => if f1 = f3 then (wt_bd (hgI τ o_ [11] 1) fun f6 => wt_lt ((f6 - (1 : Int32))) fun n8 => wt_bd (wt_whC (bX14_compareTo_1 τ o_ a0) n8) fun w10 => wt_rs w10 (fun w10 => some (0 : Int32)) (fun z_ => some z_)) else (wt_bd (hgI τ o_ [11] 1) fun f43 => wt_bd (hgI τ a0 [11] 1) fun f45 => if f43 ≤ f45 then (some (-1 : Int32)) else (some (1 : Int32)))
set_option maxHeartbeats 4000000 in
theorem wX14_compareTo (l : Launch) {G : HG} {A : Nat → Prop} {τ : HP} {o_ : Nat} {a0 : Nat} {out_ : Int32} (hd : eX14_compareTo τ o_ a0 = some out_) : Met l yX14_compareTo (ws_ yX14_compareTo cX14_compareTo 3 (some .int)) ({ frames := 0, cells := 0, slots := 0, locals := 0 }) (hPc G A τ [.ref o_, .ref a0]) (hQi G out_ τ A) 0 0 A := by
  refine Met.ofW (cc := cX14_compareTo) (maxL := 3) (ret := (some .int)) (by decide) rfl ?_
  intro p_ e_ s_ m_ args_ below_ meth_ c_ s₁_ B hml hv
  obtain ⟨rfl, hW, hC⟩ := hv
  have hx := B.exec
  have hb := B.bytes
  have hr := B.returns
  have hts := atoms_spec (ws := (ws_ yX14_compareTo cX14_compareTo 3 (some .int))) B.pre
  have hts : ∀ w ∈ lw_all, w.before _ s_ = true := fun w h => hts w (List.mem_cons_of_mem _ h)
  have hown : s_.vm.findClass RX14 = some m_.cls := findClass_of_methodNamed B.named
  have hlocks := B.notSynchronized
  have hK := hC.1
  have hT := hC.2.1
  have hL := hC.2.2.1
  have hZ := hC.2.2.2.2.1
  have hA := hC.2.2.2.2.2
  have hS : va_S A s_.heap s_.heap [] := va_S.rf
  have hl := lv_entry ([.ref o_, .ref a0]) (n := 3) (Nat.le_of_ble_eq_true rfl)
  rw [lg_entry_eq]
  generalize (lg_sl ([.ref o_, .ref a0]) ++ List.replicate (3 - (lg_sl ([.ref o_, .ref a0])).length) Slot.unset).toArray = ls at hl ⊢
  have hl : lv_has ls 3 [(0, .ref o_), (1, .ref a0)] := hl
  unfold eX14_compareTo at hd
  refine lv_aload_n (pc := 0) hx hb dX14_compareTo_0 rfl (lv_at hl 0 rfl) ?_
  obtain ⟨f1, h2, hd⟩ := wt_bd_o hd
  refine hr_get (pc := 1) hx hb hts hown hK hW (hgI_o h2) hf_11_1 (fun _ h => h) q1290 dX14_compareTo_1 ?_
  refine lv_aload_n (pc := 4) hx hb dX14_compareTo_4 rfl (lv_at hl 1 rfl) ?_
  obtain ⟨f3, h4, hd⟩ := wt_bd_o hd
  refine hr_get (pc := 5) hx hb hts hown hK hW (hgI_o h4) hf_11_1 (fun _ h => h) q1290 dX14_compareTo_5 ?_
  refine lv_icmp_eq (pc := 8) (tgt := 28) hx hb dX14_compareTo_8 (by decide) (fun c5 => ?_) (fun c5 => ?_)
  · have hd := wt_it hd c5
    refine lv_aload_n (pc := 28) hx hb dX14_compareTo_28 rfl (lv_at hl 0 rfl) ?_
    obtain ⟨f6, h7, hd⟩ := wt_bd_o hd
    refine hr_get (pc := 29) hx hb hts hown hK hW (hgI_o h7) hf_11_1 (fun _ h => h) q1290 dX14_compareTo_29 ?_
    refine lv_iconst (pc := 32) (v := 1) hx hb dX14_compareTo_32 (by decide) ?_
    refine lv_isub (pc := 33) hx hb dX14_compareTo_33 ?_
    obtain ⟨n8, en8, hd⟩ := wt_lt_o hd
    refine lv_tope en8 ?_
    refine lv_istore_n (pc := 34) (lv' := [(2, .int n8), (0, .ref o_), (1, .ref a0)]) hx hb dX14_compareTo_34 rfl hl (by decide) rfl (fun ls hl => ?_)
    obtain ⟨w10, hL11, hq12⟩ := wt_bd_o hd
    have hX13 : ∀ w10_ : Unit, (Sum.inl w10_ : (Unit) ⊕ _) = w10 → ∀ (H : Heap) (locs : List Loc) (ls : Array Slot), Hw G A τ H → va_S A s_.heap H locs → lv_has ls 3 [] → W p_ l e_ (headSpec (ws_ yX14_compareTo cX14_compareTo 3 (some .int)) ({ frames := 0, cells := 0, slots := 0, locals := 0 })).room s_ m_ ([.ref o_, .ref a0] : List Value).toArray below_ meth_ c_ H locs 0 0 (MQ below_ (hQi G out_ τ A) ([.ref o_, .ref a0] : List Value).toArray s_ 0 0 A) (F0 m_ 81 ls []) := by
      intro w10_ hw_
      have hd := wt_rs_l hw_ hq12
      clear hL11 hq12
      intro H locs ls hW hS hl
      refine lv_iconst (pc := 81) (v := 0) hx hb dX14_compareTo_81 (by decide) ?_
      exact hr_iret hx hb hr rfl hlocks (Option.some.inj hd) rfl hW hS dX14_compareTo_82 (Nat.le_of_ble_eq_true rfl) (Nat.le_of_ble_eq_true rfl)
    have hI18 : ∀ (k17 : Nat) (v9 : Int32), wt_wh (bX14_compareTo_1 τ o_ a0) k17 v9 = some w10 → ∀ (H : Heap) (locs : List Loc) (ls : Array Slot), Hw G A τ H → va_S A s_.heap H locs → lv_has ls 3 [(0, .ref o_), (1, .ref a0), (2, .int v9)] → W p_ l e_ (headSpec (ws_ yX14_compareTo cX14_compareTo 3 (some .int)) ({ frames := 0, cells := 0, slots := 0, locals := 0 })).room s_ m_ ([.ref o_, .ref a0] : List Value).toArray below_ meth_ c_ H locs 0 0 (MQ below_ (hQi G out_ τ A) ([.ref o_, .ref a0] : List Value).toArray s_ 0 0 A) (F0 m_ 35 ls []) := by
      intro k17
      induction k17 with
      | zero => intro v9 hd; exact absurd hd wt_wh_z
      | succ k17 ih15 =>
        intro v9 hd
        intro H locs ls hW hS hl
        obtain ⟨r16, hd, hk14⟩ := wt_wh_o hd
        unfold bX14_compareTo_1 at hd
        refine lv_iload_n (pc := 35) hx hb dX14_compareTo_35 rfl (lv_at hl 2 rfl) ?_
        refine lv_if_lt (pc := 36) (tgt := 81) hx hb dX14_compareTo_36 (by decide) (fun c19 => ?_) (fun c19 => ?_)
        · have hd := wt_it hd c19
          exact hX13 () (wt_exit hd hk14) _ _ _ hW hS (lv_sub hl [] rfl)
        · have hd := wt_if hd c19
          refine lv_aload_n (pc := 39) hx hb dX14_compareTo_39 rfl (lv_at hl 0 rfl) ?_
          obtain ⟨ad20, h21, hd⟩ := wt_bd_o hd
          refine hr_get (pc := 40) hx hb hts hown hK hW (hgA_o h21) hf_11_0 (fun _ h => h) q1289 dX14_compareTo_40 ?_
          refine lv_iload_n (pc := 43) hx hb dX14_compareTo_43 rfl (lv_at hl 2 rfl) ?_
          obtain ⟨z22, h23, hd⟩ := wt_bd_o hd
          obtain ⟨h24, hd⟩ := wt_ck_o hd
          refine hr_iald (pc := 44) hx hb hK hW h23 h24 dX14_compareTo_44 ?_
          refine lv_aload_n (pc := 45) hx hb dX14_compareTo_45 rfl (lv_at hl 1 rfl) ?_
          obtain ⟨ad25, h26, hd⟩ := wt_bd_o hd
          refine hr_get (pc := 46) hx hb hts hown hK hW (hgA_o h26) hf_11_0 (fun _ h => h) q1289 dX14_compareTo_46 ?_
          refine lv_iload_n (pc := 49) hx hb dX14_compareTo_49 rfl (lv_at hl 2 rfl) ?_
          obtain ⟨z27, h28, hd⟩ := wt_bd_o hd
          obtain ⟨h29, hd⟩ := wt_ck_o hd
          refine hr_iald (pc := 50) hx hb hK hW h28 h29 dX14_compareTo_50 ?_
          refine lv_icmp_eq (pc := 51) (tgt := 75) hx hb dX14_compareTo_51 (by decide) (fun c30 => ?_) (fun c30 => ?_)
          · have hd := wt_it hd c30
            obtain ⟨n31, en31, hd⟩ := wt_lt_o hd
            refine lv_iinc (pc := 75) (k := 2) (v := n31) (lv' := [(2, .int n31), (0, .ref o_), (1, .ref a0)]) hx hb dX14_compareTo_75 hl rfl en31.symm (by decide) rfl (fun ls hl => ?_)
            refine lv_goto (pc := 78) (tgt := 35) hx hb dX14_compareTo_78 (by decide) ?_
            exact ih15 _ (wt_again hd hk14) _ _ _ hW hS (lv_sub hl [1, 2, 0] rfl)
          · have hd := wt_if hd c30
            refine lv_aload_n (pc := 54) hx hb dX14_compareTo_54 rfl (lv_at hl 0 rfl) ?_
            obtain ⟨ad32, h33, hd⟩ := wt_bd_o hd
            refine hr_get (pc := 55) hx hb hts hown hK hW (hgA_o h33) hf_11_0 (fun _ h => h) q1289 dX14_compareTo_55 ?_
            refine lv_iload_n (pc := 58) hx hb dX14_compareTo_58 rfl (lv_at hl 2 rfl) ?_
            obtain ⟨z34, h35, hd⟩ := wt_bd_o hd
            obtain ⟨h36, hd⟩ := wt_ck_o hd
            refine hr_iald (pc := 59) hx hb hK hW h35 h36 dX14_compareTo_59 ?_
            refine lv_aload_n (pc := 60) hx hb dX14_compareTo_60 rfl (lv_at hl 1 rfl) ?_
            obtain ⟨ad37, h38, hd⟩ := wt_bd_o hd
            refine hr_get (pc := 61) hx hb hts hown hK hW (hgA_o h38) hf_11_0 (fun _ h => h) q1289 dX14_compareTo_61 ?_
            refine lv_iload_n (pc := 64) hx hb dX14_compareTo_64 rfl (lv_at hl 2 rfl) ?_
            obtain ⟨z39, h40, hd⟩ := wt_bd_o hd
            obtain ⟨h41, hd⟩ := wt_ck_o hd
            refine hr_iald (pc := 65) hx hb hK hW h40 h41 dX14_compareTo_65 ?_
            refine lv_icmp_le (pc := 66) (tgt := 73) hx hb dX14_compareTo_66 (by decide) (fun c42 => ?_) (fun c42 => ?_)
            · have hd := wt_it hd c42
              refine lv_iconst (pc := 73) (v := -1) hx hb dX14_compareTo_73 (by decide) ?_
              have hd := wt_rs_r (wt_exit hd hk14) hq12
              exact hr_iret hx hb hr rfl hlocks (Option.some.inj hd) rfl hW hS dX14_compareTo_74 (Nat.le_of_ble_eq_true rfl) (Nat.le_of_ble_eq_true rfl)
            · have hd := wt_if hd c42
              refine lv_iconst (pc := 69) (v := 1) hx hb dX14_compareTo_69 (by decide) ?_
              refine lv_goto (pc := 70) (tgt := 74) hx hb dX14_compareTo_70 (by decide) ?_
              have hd := wt_rs_r (wt_exit hd hk14) hq12
              exact hr_iret hx hb hr rfl hlocks (Option.some.inj hd) rfl hW hS dX14_compareTo_74 (Nat.le_of_ble_eq_true rfl) (Nat.le_of_ble_eq_true rfl)
    obtain ⟨k17, hL11⟩ := wt_whC_o hL11
    exact hI18 k17 _ hL11 _ _ _ hW hS (lv_sub hl [1, 2, 0] rfl)
  · have hd := wt_if hd c5
    refine lv_aload_n (pc := 11) hx hb dX14_compareTo_11 rfl (lv_at hl 0 rfl) ?_
    obtain ⟨f43, h44, hd⟩ := wt_bd_o hd
    refine hr_get (pc := 12) hx hb hts hown hK hW (hgI_o h44) hf_11_1 (fun _ h => h) q1290 dX14_compareTo_12 ?_
    refine lv_aload_n (pc := 15) hx hb dX14_compareTo_15 rfl (lv_at hl 1 rfl) ?_
    obtain ⟨f45, h46, hd⟩ := wt_bd_o hd
    refine hr_get (pc := 16) hx hb hts hown hK hW (hgI_o h46) hf_11_1 (fun _ h => h) q1290 dX14_compareTo_16 ?_
    refine lv_icmp_le (pc := 19) (tgt := 26) hx hb dX14_compareTo_19 (by decide) (fun c47 => ?_) (fun c47 => ?_)
    · have hd := wt_it hd c47
      refine lv_iconst (pc := 26) (v := -1) hx hb dX14_compareTo_26 (by decide) ?_
      exact hr_iret hx hb hr rfl hlocks (Option.some.inj hd) rfl hW hS dX14_compareTo_27 (Nat.le_of_ble_eq_true rfl) (Nat.le_of_ble_eq_true rfl)
    · have hd := wt_if hd c47
      refine lv_iconst (pc := 22) (v := 1) hx hb dX14_compareTo_22 (by decide) ?_
      refine lv_goto (pc := 23) (tgt := 27) hx hb dX14_compareTo_23 (by decide) ?_
      exact hr_iret hx hb hr rfl hlocks (Option.some.inj hd) rfl hW hS dX14_compareTo_27 (Nat.le_of_ble_eq_true rfl) (Nat.le_of_ble_eq_true rfl)
theorem kX14_compareTo {p : Program} {l : Launch} {e : Env} {R : Room} {s : State} {m : MethodId} {args : Array Value} {below : List Frame} {meth : Method} {c : Code} {H : Heap} {locs : List Loc} {cells slots : Nat} {Q : State → Prop} {cc : ByteArray} {pc : Nat} {ls : Array Slot} {rest : List Value} {nL : Nat} {own : String} {index : Nat} {G : HG} {A : Nat → Prop} {τ : HP} {o_ : Nat} {a0 : Nat} {out_ : Int32} (hx : p.tables.exec = Jvm.exec) (hb : c.code = cc) (hml : c.maxLocals = nL) (hown : s.vm.findClass own = some m.cls) (hts : ∀ w ∈ lw_all, w.before args s = true) (hC : Hcx G A s) (hW : Hw G A τ H) (hS : va_S A s.heap H locs) (hrc : hcl τ o_ = some 11) (hd : eX14_compareTo τ o_ a0 = some out_) (hsz : ls.size = nL) (hrm : (rest.map fun v => v.category).sum ≤ 8) (hR : 1 ≤ R.frames ∧ 22 ≤ R.locals) (hcs : cells ≤ R.cells ∧ slots ≤ R.slots) (hlk : Cond.methodLink own index yX14_compareTo ∈ lw_all) (hdg : decode cc pc = .ok (.invokevirtual index, 3)) (kk : ∀ (H1 : Heap) (locs1 : List Loc), Hw G A τ H1 → va_S A s.heap H1 locs1 → W p l e R s m args below meth c H1 locs1 cells slots Q (F0 m (pc + 3) ls (.int out_ :: rest))) : W p l e R s m args below meth c H locs cells slots Q (F0 m pc ls (.ref a0 :: .ref o_ :: rest)) := by
  refine va_calli (va_runV (As := [.ref a0]) (rest := rest) ⟨hx, hb, hml, hown, hts⟩ (wX14_compareTo l hd) (cwV 1 hts (lw_V hlk q1336 q1337 q102 q1338) rfl rfl rfl (by decide +kernel) hR) (hr_preV hC hW hS hrc rfl rfl) rfl rfl hsz rfl (lv_room hrm) hdg hcs) hS (fun _ _ h => h) (fun _ h => h) (fun r u t H1 locs1 ht hvm hp hB hz hk hS1 => ?_)
  have hp : r = out_ := hp
  subst hp
  have hW1 : Hw G A τ t.heap := hB
  rw [ht] at hW1
  exact kk H1 locs1 hW1 hS1
noncomputable def eX14_isZero (τ : HP) (o_ : Nat) : Option (Int32) :=
  wt_bd (hgI τ o_ [11] 1) fun f1 => if f1 = (1 : Int32) then (wt_bd (hgA τ o_ [11] 0) fun ad4 => wt_bd (haI τ ad4 0) fun z6 => wt_ck (vp_in (0 : Int32) z6.1) <| if (z6.2 (0 : Int32).toNatClampNeg) = 0 then (some (1 : Int32)) else (some (0 : Int32))) else (some (0 : Int32))
set_option maxHeartbeats 4000000 in
theorem wX14_isZero (l : Launch) {G : HG} {A : Nat → Prop} {τ : HP} {o_ : Nat} {out_ : Int32} (hd : eX14_isZero τ o_ = some out_) : Met l yX14_isZero (ws_ yX14_isZero cX14_isZero 1 (some .boolean)) ({ frames := 0, cells := 0, slots := 0, locals := 0 }) (hPc G A τ [.ref o_]) (hQi G out_ τ A) 0 0 A := by
  refine Met.ofW (cc := cX14_isZero) (maxL := 1) (ret := (some .boolean)) (by decide) rfl ?_
  intro p_ e_ s_ m_ args_ below_ meth_ c_ s₁_ B hml hv
  obtain ⟨rfl, hW, hC⟩ := hv
  have hx := B.exec
  have hb := B.bytes
  have hr := B.returns
  have hts := atoms_spec (ws := (ws_ yX14_isZero cX14_isZero 1 (some .boolean))) B.pre
  have hts : ∀ w ∈ lw_all, w.before _ s_ = true := fun w h => hts w (List.mem_cons_of_mem _ h)
  have hown : s_.vm.findClass RX14 = some m_.cls := findClass_of_methodNamed B.named
  have hlocks := B.notSynchronized
  have hK := hC.1
  have hT := hC.2.1
  have hL := hC.2.2.1
  have hZ := hC.2.2.2.2.1
  have hA := hC.2.2.2.2.2
  have hS : va_S A s_.heap s_.heap [] := va_S.rf
  have hl := lv_entry ([.ref o_]) (n := 1) (Nat.le_of_ble_eq_true rfl)
  rw [lg_entry_eq]
  generalize (lg_sl ([.ref o_]) ++ List.replicate (1 - (lg_sl ([.ref o_])).length) Slot.unset).toArray = ls at hl ⊢
  have hl : lv_has ls 1 [(0, .ref o_)] := hl
  unfold eX14_isZero at hd
  refine lv_aload_n (pc := 0) hx hb dX14_isZero_0 rfl (lv_at hl 0 rfl) ?_
  obtain ⟨f1, h2, hd⟩ := wt_bd_o hd
  refine hr_get (pc := 1) hx hb hts hown hK hW (hgI_o h2) hf_11_1 (fun _ h => h) q1290 dX14_isZero_1 ?_
  refine lv_iconst (pc := 4) (v := 1) hx hb dX14_isZero_4 (by decide) ?_
  refine lv_icmp_ne (pc := 5) (tgt := 21) hx hb dX14_isZero_5 (by decide) (fun c3 => ?_) (fun c3 => ?_)
  · have hd := wt_if hd c3
    refine lv_iconst (pc := 21) (v := 0) hx hb dX14_isZero_21 (by decide) ?_
    exact hr_iret hx hb hr rfl hlocks (Option.some.inj hd) rfl hW hS dX14_isZero_22 (Nat.le_of_ble_eq_true rfl) (Nat.le_of_ble_eq_true rfl)
  · have hd := wt_it hd c3
    refine lv_aload_n (pc := 8) hx hb dX14_isZero_8 rfl (lv_at hl 0 rfl) ?_
    obtain ⟨ad4, h5, hd⟩ := wt_bd_o hd
    refine hr_get (pc := 9) hx hb hts hown hK hW (hgA_o h5) hf_11_0 (fun _ h => h) q1289 dX14_isZero_9 ?_
    refine lv_iconst (pc := 12) (v := 0) hx hb dX14_isZero_12 (by decide) ?_
    obtain ⟨z6, h7, hd⟩ := wt_bd_o hd
    obtain ⟨h8, hd⟩ := wt_ck_o hd
    refine hr_iald (pc := 13) hx hb hK hW h7 h8 dX14_isZero_13 ?_
    refine lv_if_ne (pc := 14) (tgt := 21) hx hb dX14_isZero_14 (by decide) (fun c9 => ?_) (fun c9 => ?_)
    · have hd := wt_if hd c9
      refine lv_iconst (pc := 21) (v := 0) hx hb dX14_isZero_21 (by decide) ?_
      exact hr_iret hx hb hr rfl hlocks (Option.some.inj hd) rfl hW hS dX14_isZero_22 (Nat.le_of_ble_eq_true rfl) (Nat.le_of_ble_eq_true rfl)
    · have hd := wt_it hd c9
      refine lv_iconst (pc := 17) (v := 1) hx hb dX14_isZero_17 (by decide) ?_
      refine lv_goto (pc := 18) (tgt := 22) hx hb dX14_isZero_18 (by decide) ?_
      exact hr_iret hx hb hr rfl hlocks (Option.some.inj hd) rfl hW hS dX14_isZero_22 (Nat.le_of_ble_eq_true rfl) (Nat.le_of_ble_eq_true rfl)
theorem kX14_isZero {p : Program} {l : Launch} {e : Env} {R : Room} {s : State} {m : MethodId} {args : Array Value} {below : List Frame} {meth : Method} {c : Code} {H : Heap} {locs : List Loc} {cells slots : Nat} {Q : State → Prop} {cc : ByteArray} {pc : Nat} {ls : Array Slot} {rest : List Value} {nL : Nat} {own : String} {index : Nat} {G : HG} {A : Nat → Prop} {τ : HP} {o_ : Nat} {out_ : Int32} (hx : p.tables.exec = Jvm.exec) (hb : c.code = cc) (hml : c.maxLocals = nL) (hown : s.vm.findClass own = some m.cls) (hts : ∀ w ∈ lw_all, w.before args s = true) (hC : Hcx G A s) (hW : Hw G A τ H) (hS : va_S A s.heap H locs) (hrc : hcl τ o_ = some 11) (hd : eX14_isZero τ o_ = some out_) (hsz : ls.size = nL) (hrm : (rest.map fun v => v.category).sum ≤ 8) (hR : 1 ≤ R.frames ∧ 20 ≤ R.locals) (hcs : cells ≤ R.cells ∧ slots ≤ R.slots) (hlk : Cond.methodLink own index yX14_isZero ∈ lw_all) (hdg : decode cc pc = .ok (.invokevirtual index, 3)) (kk : ∀ (H1 : Heap) (locs1 : List Loc), Hw G A τ H1 → va_S A s.heap H1 locs1 → W p l e R s m args below meth c H1 locs1 cells slots Q (F0 m (pc + 3) ls (.int out_ :: rest))) : W p l e R s m args below meth c H locs cells slots Q (F0 m pc ls (.ref o_ :: rest)) := by
  refine va_calli (va_runV (As := []) (rest := rest) ⟨hx, hb, hml, hown, hts⟩ (wX14_isZero l hd) (cwV 0 hts (lw_V hlk q1350 q1351 q102 q1352) rfl rfl rfl (by decide +kernel) hR) (hr_preV hC hW hS hrc rfl rfl) rfl rfl hsz rfl (lv_room hrm) hdg hcs) hS (fun _ _ h => h) (fun _ h => h) (fun r u t H1 locs1 ht hvm hp hB hz hk hS1 => ?_)
  have hp : r = out_ := hp
  subst hp
  have hW1 : Hw G A τ t.heap := hB
  rw [ht] at hW1
  exact kk H1 locs1 hW1 hS1
noncomputable def eX14_become (τ : HP) (o_ : Nat) (a0 : Nat) : Option (HP) :=
  wt_bd (hgA τ a0 [11] 0) fun ad1 => wt_bd (hgA τ o_ [11] 0) fun ad3 => wt_bd (hgI τ a0 [11] 1) fun f5 => wt_bd (haI τ ad1 0) fun z7 => wt_bd (haI τ ad3 0) fun z9 => wt_ck (¬ (0 : Int32) < 0 ∧ ¬ (0 : Int32) < 0 ∧ ¬ f5 < 0 ∧ (0 : Int32).toNatClampNeg + f5.toNatClampNeg ≤ z7.1 ∧ (0 : Int32).toNatClampNeg + f5.toNatClampNeg ≤ z9.1) <| wt_lt (hst τ ad3 (.inl (0, z9.1, .inl (va_cpy z7.2 z9.2 (0 : Int32).toNatClampNeg (0 : Int32).toNatClampNeg f5.toNatClampNeg)))) fun τ12 => wt_bd (hgI τ12 a0 [11] 1) fun f13 => wt_bd (hp τ12 o_ [11] 1 (.int f13)) fun τ15 => some (τ15)
set_option maxHeartbeats 4000000 in
theorem wX14_become (l : Launch) {G : HG} {A : Nat → Prop} {τ : HP} {o_ : Nat} {a0 : Nat} {out_ : HP} (hd : eX14_become τ o_ a0 = some out_) : Met l yX14_become (ws_ yX14_become cX14_become 2 none) ({ frames := 1, cells := 0, slots := 0, locals := 32 }) (hPc G A τ [.ref o_, .ref a0]) (hQv G out_ A) 0 0 A := by
  refine Met.ofW (cc := cX14_become) (maxL := 2) (ret := none) (by decide) rfl ?_
  intro p_ e_ s_ m_ args_ below_ meth_ c_ s₁_ B hml hv
  obtain ⟨rfl, hW, hC⟩ := hv
  have hx := B.exec
  have hb := B.bytes
  have hr := B.returns
  have hts := atoms_spec (ws := (ws_ yX14_become cX14_become 2 none)) B.pre
  have hts : ∀ w ∈ lw_all, w.before _ s_ = true := fun w h => hts w (List.mem_cons_of_mem _ h)
  have hown : s_.vm.findClass RX14 = some m_.cls := findClass_of_methodNamed B.named
  have hlocks := B.notSynchronized
  have hK := hC.1
  have hT := hC.2.1
  have hL := hC.2.2.1
  have hZ := hC.2.2.2.2.1
  have hA := hC.2.2.2.2.2
  have hS : va_S A s_.heap s_.heap [] := va_S.rf
  have hl := lv_entry ([.ref o_, .ref a0]) (n := 2) (Nat.le_of_ble_eq_true rfl)
  rw [lg_entry_eq]
  generalize (lg_sl ([.ref o_, .ref a0]) ++ List.replicate (2 - (lg_sl ([.ref o_, .ref a0])).length) Slot.unset).toArray = ls at hl ⊢
  have hl : lv_has ls 2 [(0, .ref o_), (1, .ref a0)] := hl
  unfold eX14_become at hd
  refine lv_aload_n (pc := 0) hx hb dX14_become_0 rfl (lv_at hl 1 rfl) ?_
  obtain ⟨ad1, h2, hd⟩ := wt_bd_o hd
  refine hr_get (pc := 1) hx hb hts hown hK hW (hgA_o h2) hf_11_0 (fun _ h => h) q1289 dX14_become_1 ?_
  refine lv_iconst (pc := 4) (v := 0) hx hb dX14_become_4 (by decide) ?_
  refine lv_aload_n (pc := 5) hx hb dX14_become_5 rfl (lv_at hl 0 rfl) ?_
  obtain ⟨ad3, h4, hd⟩ := wt_bd_o hd
  refine hr_get (pc := 6) hx hb hts hown hK hW (hgA_o h4) hf_11_0 (fun _ h => h) q1289 dX14_become_6 ?_
  refine lv_iconst (pc := 9) (v := 0) hx hb dX14_become_9 (by decide) ?_
  refine lv_aload_n (pc := 10) hx hb dX14_become_10 rfl (lv_at hl 1 rfl) ?_
  obtain ⟨f5, h6, hd⟩ := wt_bd_o hd
  refine hr_get (pc := 11) hx hb hts hown hK hW (hgI_o h6) hf_11_1 (fun _ h => h) q1290 dX14_become_11 ?_
  obtain ⟨z7, h8, hd⟩ := wt_bd_o hd
  obtain ⟨z9, h10, hd⟩ := wt_bd_o hd
  obtain ⟨h11, hd⟩ := wt_ck_o hd
  obtain ⟨τ12, eτ12, hd⟩ := wt_lt_o hd
  refine hr_copyI (pc := 14) (t := 0) hx hb (hml.trans hl.1.symm) hts hown hC hW hS h8 h10 rfl (by decide) h11 (fun _ _ => rfl) eτ12 (hts _ q1360) (Nat.le_of_ble_eq_true rfl) (Nat.le_of_ble_eq_true rfl) dX14_become_14 (fun H locs hW hS => ?_)
  refine lv_aload_n (pc := 17) hx hb dX14_become_17 rfl (lv_at hl 0 rfl) ?_
  refine lv_aload_n (pc := 18) hx hb dX14_become_18 rfl (lv_at hl 1 rfl) ?_
  obtain ⟨f13, h14, hd⟩ := wt_bd_o hd
  refine hr_get (pc := 19) hx hb hts hown hK hW (hgI_o h14) hf_11_1 (fun _ h => h) q1290 dX14_become_19 ?_
  obtain ⟨τ15, h16, hd⟩ := wt_bd_o hd
  refine hr_put (pc := 22) (ty := .int) hx hb hts hown hK hW hS h16 hf_11_1 (by decide +kernel) rfl rfl (fun _ h => h) q1290 dX14_become_22 (fun H locs hW hS => ?_)
  exact hr_vret hx hb hr hlocks (Option.some.inj hd) hW hS dX14_become_25 (Nat.le_of_ble_eq_true rfl) (Nat.le_of_ble_eq_true rfl)
theorem kX14_become {p : Program} {l : Launch} {e : Env} {R : Room} {s : State} {m : MethodId} {args : Array Value} {below : List Frame} {meth : Method} {c : Code} {H : Heap} {locs : List Loc} {cells slots : Nat} {Q : State → Prop} {cc : ByteArray} {pc : Nat} {ls : Array Slot} {rest : List Value} {nL : Nat} {own : String} {index : Nat} {G : HG} {A : Nat → Prop} {τ : HP} {o_ : Nat} {a0 : Nat} {out_ : HP} (hx : p.tables.exec = Jvm.exec) (hb : c.code = cc) (hml : c.maxLocals = nL) (hown : s.vm.findClass own = some m.cls) (hts : ∀ w ∈ lw_all, w.before args s = true) (hC : Hcx G A s) (hW : Hw G A τ H) (hS : va_S A s.heap H locs) (hrc : hcl τ o_ = some 11) (hd : eX14_become τ o_ a0 = some out_) (hsz : ls.size = nL) (hrm : (rest.map fun v => v.category).sum ≤ 8) (hR : 2 ≤ R.frames ∧ 53 ≤ R.locals) (hcs : cells ≤ R.cells ∧ slots ≤ R.slots) (hlk : Cond.methodLink own index yX14_become ∈ lw_all) (hdg : decode cc pc = .ok (.invokevirtual index, 3)) (kk : ∀ (H1 : Heap) (locs1 : List Loc), Hw G A out_ H1 → va_S A s.heap H1 locs1 → W p l e R s m args below meth c H1 locs1 cells slots Q (F0 m (pc + 3) ls (rest))) : W p l e R s m args below meth c H locs cells slots Q (F0 m pc ls (.ref a0 :: .ref o_ :: rest)) := by
  refine va_callv (va_runV (As := [.ref a0]) (rest := rest) ⟨hx, hb, hml, hown, hts⟩ (wX14_become l hd) (cwV 1 hts (lw_V hlk q1357 q1358 q102 q1359) rfl rfl rfl (by decide +kernel) hR) (hr_preV hC hW hS hrc rfl rfl) rfl rfl hsz rfl (lv_room hrm) hdg hcs) hS (fun _ _ h => h) (fun _ h => h) (fun u t H1 locs1 ht hvm hp hB hz hk hS1 => ?_)
  have hW1 : Hw G A out_ t.heap := hB
  rw [ht] at hW1
  exact kk H1 locs1 hW1 hS1
noncomputable def eX15_init (τ : HP) (o_ : Nat) (a0 : Int32) (a1 : Int32) (a2 : Int32) : Option (HP) :=
  wt_bd (hp τ o_ [12] 0 (.int a0)) fun τ1 => wt_bd (hp τ1 o_ [12] 1 (.int a1)) fun τ3 => wt_bd (hp τ3 o_ [12] 2 (.int a2)) fun τ5 => some (τ5)
set_option maxHeartbeats 4000000 in
theorem wX15_init (l : Launch) {G : HG} {A : Nat → Prop} {τ : HP} {o_ : Nat} {a0 : Int32} {a1 : Int32} {a2 : Int32} {out_ : HP} (hd : eX15_init τ o_ a0 a1 a2 = some out_) : Met l yX15_init (ws_ yX15_init cX15_init 4 none) ({ frames := 1, cells := 0, slots := 0, locals := 32 }) (hPc G A τ [.ref o_, .int a0, .int a1, .int a2]) (hQv G out_ A) 0 0 A := by
  refine Met.ofW (cc := cX15_init) (maxL := 4) (ret := none) (by decide) rfl ?_
  intro p_ e_ s_ m_ args_ below_ meth_ c_ s₁_ B hml hv
  obtain ⟨rfl, hW, hC⟩ := hv
  have hx := B.exec
  have hb := B.bytes
  have hr := B.returns
  have hts := atoms_spec (ws := (ws_ yX15_init cX15_init 4 none)) B.pre
  have hts : ∀ w ∈ lw_all, w.before _ s_ = true := fun w h => hts w (List.mem_cons_of_mem _ h)
  have hown : s_.vm.findClass RX15 = some m_.cls := findClass_of_methodNamed B.named
  have hlocks := B.notSynchronized
  have hK := hC.1
  have hT := hC.2.1
  have hL := hC.2.2.1
  have hZ := hC.2.2.2.2.1
  have hA := hC.2.2.2.2.2
  have hin2 : meth_.name = "<init>" := (name_of_methodNamed B.named B.method).1
  have hS : va_S A s_.heap s_.heap [] := va_S.rf
  have hl := lv_entry ([.ref o_, .int a0, .int a1, .int a2]) (n := 4) (Nat.le_of_ble_eq_true rfl)
  rw [lg_entry_eq]
  generalize (lg_sl ([.ref o_, .int a0, .int a1, .int a2]) ++ List.replicate (4 - (lg_sl ([.ref o_, .int a0, .int a1, .int a2])).length) Slot.unset).toArray = ls at hl ⊢
  have hl : lv_has ls 4 [(0, .ref o_), (1, .int a0), (2, .int a1), (3, .int a2)] := hl
  unfold eX15_init at hd
  refine lv_aload_n (pc := 0) hx hb dX15_init_0 rfl (lv_at hl 0 rfl) ?_
  refine W.objInit (g := F0 m_ 1 ls _) hx hb hown (hts _ q1462) (hts _ q110) (hts _ q111) rfl (by rw [hml]; exact hl.1) rfl dX15_init_1 (Nat.le_of_ble_eq_true rfl) (Nat.le_of_ble_eq_true rfl) ?_
  refine W.eq (g2 := F0 m_ 4 ls []) rfl ?_
  refine lv_aload_n (pc := 4) hx hb dX15_init_4 rfl (lv_at hl 0 rfl) ?_
  refine lv_iload_n (pc := 5) hx hb dX15_init_5 rfl (lv_at hl 1 rfl) ?_
  obtain ⟨τ1, h2, hd⟩ := wt_bd_o hd
  refine hr_putF (pc := 6) (ty := .int) hx hb hts hown hK hin2 hW hS h2 hf_12_0 (by decide +kernel) rfl rfl q1463 dX15_init_6 (fun H locs hW hS => ?_)
  refine lv_aload_n (pc := 9) hx hb dX15_init_9 rfl (lv_at hl 0 rfl) ?_
  refine lv_iload_n (pc := 10) hx hb dX15_init_10 rfl (lv_at hl 2 rfl) ?_
  obtain ⟨τ3, h4, hd⟩ := wt_bd_o hd
  refine hr_putF (pc := 11) (ty := .int) hx hb hts hown hK hin2 hW hS h4 hf_12_1 (by decide +kernel) rfl rfl q1465 dX15_init_11 (fun H locs hW hS => ?_)
  refine lv_aload_n (pc := 14) hx hb dX15_init_14 rfl (lv_at hl 0 rfl) ?_
  refine lv_iload_n (pc := 15) hx hb dX15_init_15 rfl (lv_at hl 3 rfl) ?_
  obtain ⟨τ5, h6, hd⟩ := wt_bd_o hd
  refine hr_putF (pc := 16) (ty := .int) hx hb hts hown hK hin2 hW hS h6 hf_12_2 (by decide +kernel) rfl rfl q1467 dX15_init_16 (fun H locs hW hS => ?_)
  exact hr_vret hx hb hr hlocks (Option.some.inj hd) hW hS dX15_init_19 (Nat.le_of_ble_eq_true rfl) (Nat.le_of_ble_eq_true rfl)
theorem kX15_init {p : Program} {l : Launch} {e : Env} {R : Room} {s : State} {m : MethodId} {args : Array Value} {below : List Frame} {meth : Method} {c : Code} {H : Heap} {locs : List Loc} {cells slots : Nat} {Q : State → Prop} {cc : ByteArray} {pc : Nat} {ls : Array Slot} {rest : List Value} {nL : Nat} {own : String} {index : Nat} {G : HG} {A : Nat → Prop} {τ : HP} {o_ : Nat} {a0 : Int32} {a1 : Int32} {a2 : Int32} {out_ : HP} (hx : p.tables.exec = Jvm.exec) (hb : c.code = cc) (hml : c.maxLocals = nL) (hown : s.vm.findClass own = some m.cls) (hts : ∀ w ∈ lw_all, w.before args s = true) (hC : Hcx G A s) (hW : Hw G A τ H) (hS : va_S A s.heap H locs) (hd : eX15_init τ o_ a0 a1 a2 = some out_) (hsz : ls.size = nL) (hrm : (rest.map fun v => v.category).sum ≤ 8) (hR : 2 ≤ R.frames ∧ 55 ≤ R.locals) (hcs : cells ≤ R.cells ∧ slots ≤ R.slots) (hlk : Cond.methodLink own index yX15_init ∈ lw_all) (hdg : decode cc pc = .ok (.invokespecial index, 3)) (kk : ∀ (H1 : Heap) (locs1 : List Loc), Hw G A out_ H1 → va_S A s.heap H1 locs1 → W p l e R s m args below meth c H1 locs1 cells slots Q (F0 m (pc + 3) ls (rest))) : W p l e R s m args below meth c H locs cells slots Q (F0 m pc ls (.int a2 :: .int a1 :: .int a0 :: .ref o_ :: rest)) := by
  refine va_callv (va_runI (As := [.int a0, .int a1, .int a2]) (rest := rest) ⟨hx, hb, hml, hown, hts⟩ (wX15_init l hd) (cwI 3 hts (lw_meth q1461) rfl rfl rfl (hts _ q103) (hts _ hlk) (hts _ q1460) rfl (by decide +kernel) hR) (hr_preS hC hW hS) rfl rfl hsz rfl (lv_room hrm) hdg hcs) hS (fun _ _ h => h) (fun _ h => h) (fun u t H1 locs1 ht hvm hp hB hz hk hS1 => ?_)
  have hW1 : Hw G A out_ t.heap := hB
  rw [ht] at hW1
  exact kk H1 locs1 hW1 hS1
noncomputable def bX2_init_1 (o_ : Nat) (v15 : Int32 × HP) : Option ((Int32 × HP) ⊕ (HP)) :=
  if (10 : Int32) ≤ v15.1 then (some (.inr v15.2)) else (wt_bd (hgA v15.2 o_ [1] 1) fun ad26 => wt_bd (haI v15.2 ad26 0) fun z28 => wt_ck (vp_in v15.1 z28.1) <| wt_lt (hst v15.2 ad26 (.inl (0, z28.1, .inl (upd z28.2 v15.1.toNatClampNeg (16 : Int32))))) fun τ31 => wt_bd (hgA τ31 o_ [1] 3) fun ad32 => wt_bd (haI τ31 ad32 0) fun z34 => wt_ck (vp_in v15.1 z34.1) <| wt_lt (hst τ31 ad32 (.inl (0, z34.1, .inl (upd z34.2 v15.1.toNatClampNeg ((1 : Int32) <<< (v15.1 &&& 31)))))) fun τ37 => wt_lt (v15.1 + (1 : Int32)) fun n38 => some (.inl (n38, τ37)))
noncomputable def eX2_init (τ : HP) (o_ : Nat) : Option (HP) :=
  wt_lt (hnew τ (.inl (0, 80, .inl (fun _ => 0)))) fun τ1 => wt_bd (hp τ1 o_ [1] 0 (.ref (τ.2))) fun τ2 => wt_lt (hnew τ2 (.inl (0, 10, .inl (fun _ => 0)))) fun τ4 => wt_bd (hp τ4 o_ [1] 1 (.ref (τ2.2))) fun τ5 => wt_lt (hnew τ5 (.inl (0, 10, .inl (fun _ => 0)))) fun τ7 => wt_bd (hp τ7 o_ [1] 2 (.ref (τ5.2))) fun τ8 => wt_lt (hnew τ8 (.inl (0, 10, .inl (fun _ => 0)))) fun τ10 => wt_bd (hp τ10 o_ [1] 3 (.ref (τ8.2))) fun τ11 => wt_bd (hp τ11 o_ [1] 6 (.int (8 : Int32))) fun τ13 => wt_bd (wt_whC (bX2_init_1 o_) ((0 : Int32), τ13)) fun w16 => some w16
set_option maxHeartbeats 4000000 in
theorem wX2_init (l : Launch) {G : HG} {A : Nat → Prop} {τ : HP} {o_ : Nat} {out_ : HP} (hd : eX2_init τ o_ = some out_) : Met l yX2_init (ws_ yX2_init cX2_init 2 none) ({ frames := 1, cells := 4, slots := 110, locals := 32 }) (hPc G A τ [.ref o_]) (hQv G out_ A) 4 110 A := by
  refine Met.ofW (cc := cX2_init) (maxL := 2) (ret := none) (by decide) rfl ?_
  intro p_ e_ s_ m_ args_ below_ meth_ c_ s₁_ B hml hv
  obtain ⟨rfl, hW, hC⟩ := hv
  have hx := B.exec
  have hb := B.bytes
  have hr := B.returns
  have hts := atoms_spec (ws := (ws_ yX2_init cX2_init 2 none)) B.pre
  have hts : ∀ w ∈ lw_all, w.before _ s_ = true := fun w h => hts w (List.mem_cons_of_mem _ h)
  have hown : s_.vm.findClass RX2 = some m_.cls := findClass_of_methodNamed B.named
  have hlocks := B.notSynchronized
  have hK := hC.1
  have hT := hC.2.1
  have hL := hC.2.2.1
  have hZ := hC.2.2.2.2.1
  have hA := hC.2.2.2.2.2
  have hin2 : meth_.name = "<init>" := (name_of_methodNamed B.named B.method).1
  have hS : va_S A s_.heap s_.heap [] := va_S.rf
  have hl := lv_entry ([.ref o_]) (n := 2) (Nat.le_of_ble_eq_true rfl)
  rw [lg_entry_eq]
  generalize (lg_sl ([.ref o_]) ++ List.replicate (2 - (lg_sl ([.ref o_])).length) Slot.unset).toArray = ls at hl ⊢
  have hl : lv_has ls 2 [(0, .ref o_)] := hl
  unfold eX2_init at hd
  refine lv_aload_n (pc := 0) hx hb dX2_init_0 rfl (lv_at hl 0 rfl) ?_
  refine W.objInit (g := F0 m_ 1 ls _) hx hb hown (hts _ q117) (hts _ q110) (hts _ q111) rfl (by rw [hml]; exact hl.1) rfl dX2_init_1 (Nat.le_of_ble_eq_true rfl) (Nat.le_of_ble_eq_true rfl) ?_
  refine W.eq (g2 := F0 m_ 4 ls []) rfl ?_
  refine lv_aload_n (pc := 4) hx hb dX2_init_4 rfl (lv_at hl 0 rfl) ?_
  refine lv_bipush (pc := 5) (v := 80) hx hb dX2_init_5 (by decide) ?_
  obtain ⟨τ1, eτ1, hd⟩ := wt_lt_o hd
  refine hr_newI (pc := 7) (N := 80) hx hb hts hK hW hS hA (by decide) rfl (by decide) eτ1 (Nat.le_of_ble_eq_true rfl) (Nat.le_of_ble_eq_true rfl) dX2_init_7 (fun H hW hS => ?_)
  obtain ⟨τ2, h3, hd⟩ := wt_bd_o hd
  refine hr_putF (pc := 9) (ty := (.array .int)) hx hb hts hown hK hin2 hW hS h3 hf_1_0 (by decide +kernel) rfl rfl q118 dX2_init_9 (fun H locs hW hS => ?_)
  refine lv_aload_n (pc := 12) hx hb dX2_init_12 rfl (lv_at hl 0 rfl) ?_
  refine lv_bipush (pc := 13) (v := 10) hx hb dX2_init_13 (by decide) ?_
  obtain ⟨τ4, eτ4, hd⟩ := wt_lt_o hd
  refine hr_newI (pc := 15) (N := 10) hx hb hts hK hW hS hA (by decide) rfl (by decide) eτ4 (Nat.le_of_ble_eq_true rfl) (Nat.le_of_ble_eq_true rfl) dX2_init_15 (fun H hW hS => ?_)
  obtain ⟨τ5, h6, hd⟩ := wt_bd_o hd
  refine hr_putF (pc := 17) (ty := (.array .int)) hx hb hts hown hK hin2 hW hS h6 hf_1_1 (by decide +kernel) rfl rfl q122 dX2_init_17 (fun H locs hW hS => ?_)
  refine lv_aload_n (pc := 20) hx hb dX2_init_20 rfl (lv_at hl 0 rfl) ?_
  refine lv_bipush (pc := 21) (v := 10) hx hb dX2_init_21 (by decide) ?_
  obtain ⟨τ7, eτ7, hd⟩ := wt_lt_o hd
  refine hr_newI (pc := 23) (N := 10) hx hb hts hK hW hS hA (by decide) rfl (by decide) eτ7 (Nat.le_of_ble_eq_true rfl) (Nat.le_of_ble_eq_true rfl) dX2_init_23 (fun H hW hS => ?_)
  obtain ⟨τ8, h9, hd⟩ := wt_bd_o hd
  refine hr_putF (pc := 25) (ty := (.array .int)) hx hb hts hown hK hin2 hW hS h9 hf_1_2 (by decide +kernel) rfl rfl q126 dX2_init_25 (fun H locs hW hS => ?_)
  refine lv_aload_n (pc := 28) hx hb dX2_init_28 rfl (lv_at hl 0 rfl) ?_
  refine lv_bipush (pc := 29) (v := 10) hx hb dX2_init_29 (by decide) ?_
  obtain ⟨τ10, eτ10, hd⟩ := wt_lt_o hd
  refine hr_newI (pc := 31) (N := 10) hx hb hts hK hW hS hA (by decide) rfl (by decide) eτ10 (Nat.le_of_ble_eq_true rfl) (Nat.le_of_ble_eq_true rfl) dX2_init_31 (fun H hW hS => ?_)
  obtain ⟨τ11, h12, hd⟩ := wt_bd_o hd
  refine hr_putF (pc := 33) (ty := (.array .int)) hx hb hts hown hK hin2 hW hS h12 hf_1_3 (by decide +kernel) rfl rfl q130 dX2_init_33 (fun H locs hW hS => ?_)
  refine lv_aload_n (pc := 36) hx hb dX2_init_36 rfl (lv_at hl 0 rfl) ?_
  refine lv_bipush (pc := 37) (v := 8) hx hb dX2_init_37 (by decide) ?_
  obtain ⟨τ13, h14, hd⟩ := wt_bd_o hd
  refine hr_put (pc := 39) (ty := .int) hx hb hts hown hK hW hS h14 hf_1_6 (by decide +kernel) rfl rfl (fun _ h => h) q139 dX2_init_39 (fun H locs hW hS => ?_)
  refine lv_iconst (pc := 42) (v := 0) hx hb dX2_init_42 (by decide) ?_
  refine lv_istore_n (pc := 43) (lv' := [(1, .int (0 : Int32)), (0, .ref o_)]) hx hb dX2_init_43 rfl hl (by decide) rfl (fun ls hl => ?_)
  obtain ⟨w16, hL17, hq18⟩ := wt_bd_o hd
  have hX19 : ∀ w16_ : HP, w16_ = w16 → ∀ (H : Heap) (locs : List Loc) (ls : Array Slot), Hw G A w16_ H → va_S A s_.heap H locs → lv_has ls 2 [] → W p_ l e_ (headSpec (ws_ yX2_init cX2_init 2 none) ({ frames := 1, cells := 4, slots := 110, locals := 32 })).room s_ m_ ([.ref o_] : List Value).toArray below_ meth_ c_ H locs 4 110 (MQ below_ (hQv G out_ A) ([.ref o_] : List Value).toArray s_ 4 110 A) (F0 m_ 73 ls []) := by
    intro w16_ hw_
    have hd := hq18
    subst hw_
    clear hL17 hq18
    intro H locs ls hW hS hl
    exact hr_vret hx hb hr hlocks (Option.some.inj hd) hW hS dX2_init_73 (Nat.le_of_ble_eq_true rfl) (Nat.le_of_ble_eq_true rfl)
  have hI24 : ∀ (k23 : Nat) (v15 : Int32 × HP), wt_wh (bX2_init_1 o_) k23 v15 = some w16 → ∀ (H : Heap) (locs : List Loc) (ls : Array Slot), Hw G A v15.2 H → va_S A s_.heap H locs → lv_has ls 2 [(0, .ref o_), (1, .int v15.1)] → W p_ l e_ (headSpec (ws_ yX2_init cX2_init 2 none) ({ frames := 1, cells := 4, slots := 110, locals := 32 })).room s_ m_ ([.ref o_] : List Value).toArray below_ meth_ c_ H locs 4 110 (MQ below_ (hQv G out_ A) ([.ref o_] : List Value).toArray s_ 4 110 A) (F0 m_ 44 ls []) := by
    intro k23
    induction k23 with
    | zero => intro v15 hd; exact absurd hd wt_wh_z
    | succ k23 ih21 =>
      intro v15 hd
      intro H locs ls hW hS hl
      obtain ⟨r22, hd, hk20⟩ := wt_wh_o hd
      unfold bX2_init_1 at hd
      refine lv_iload_n (pc := 44) hx hb dX2_init_44 rfl (lv_at hl 1 rfl) ?_
      refine lv_bipush (pc := 45) (v := 10) hx hb dX2_init_45 (by decide) ?_
      refine lv_icmp_ge (pc := 47) (tgt := 73) hx hb dX2_init_47 (by decide) (fun c25 => ?_) (fun c25 => ?_)
      · have hd := wt_it hd c25
        exact hX19 v15.2 (wt_exit hd hk20) _ _ _ hW hS (lv_sub hl [] rfl)
      · have hd := wt_if hd c25
        refine lv_aload_n (pc := 50) hx hb dX2_init_50 rfl (lv_at hl 0 rfl) ?_
        obtain ⟨ad26, h27, hd⟩ := wt_bd_o hd
        refine hr_get (pc := 51) hx hb hts hown hK hW (hgA_o h27) hf_1_1 (fun _ h => h) q122 dX2_init_51 ?_
        refine lv_iload_n (pc := 54) hx hb dX2_init_54 rfl (lv_at hl 1 rfl) ?_
        refine lv_bipush (pc := 55) (v := 16) hx hb dX2_init_55 (by decide) ?_
        obtain ⟨z28, h29, hd⟩ := wt_bd_o hd
        obtain ⟨h30, hd⟩ := wt_ck_o hd
        obtain ⟨τ31, eτ31, hd⟩ := wt_lt_o hd
        refine hr_iast (pc := 57) hx hb hK hW hS h29 h30 eτ31 dX2_init_57 (fun H locs hW hS => ?_)
        refine lv_aload_n (pc := 58) hx hb dX2_init_58 rfl (lv_at hl 0 rfl) ?_
        obtain ⟨ad32, h33, hd⟩ := wt_bd_o hd
        refine hr_get (pc := 59) hx hb hts hown hK hW (hgA_o h33) hf_1_3 (fun _ h => h) q130 dX2_init_59 ?_
        refine lv_iload_n (pc := 62) hx hb dX2_init_62 rfl (lv_at hl 1 rfl) ?_
        refine lv_iconst (pc := 63) (v := 1) hx hb dX2_init_63 (by decide) ?_
        refine lv_iload_n (pc := 64) hx hb dX2_init_64 rfl (lv_at hl 1 rfl) ?_
        refine lv_ishl (pc := 65) hx hb dX2_init_65 ?_
        obtain ⟨z34, h35, hd⟩ := wt_bd_o hd
        obtain ⟨h36, hd⟩ := wt_ck_o hd
        obtain ⟨τ37, eτ37, hd⟩ := wt_lt_o hd
        refine hr_iast (pc := 66) hx hb hK hW hS h35 h36 eτ37 dX2_init_66 (fun H locs hW hS => ?_)
        obtain ⟨n38, en38, hd⟩ := wt_lt_o hd
        refine lv_iinc (pc := 67) (k := 1) (v := n38) (lv' := [(1, .int n38), (0, .ref o_)]) hx hb dX2_init_67 hl rfl en38.symm (by decide) rfl (fun ls hl => ?_)
        refine lv_goto (pc := 70) (tgt := 44) hx hb dX2_init_70 (by decide) ?_
        exact ih21 _ (wt_again hd hk20) _ _ _ hW hS (lv_sub hl [1, 0] rfl)
  obtain ⟨k23, hL17⟩ := wt_whC_o hL17
  exact hI24 k23 _ hL17 _ _ _ hW hS (lv_sub hl [1, 0] rfl)
theorem kX2_init {p : Program} {l : Launch} {e : Env} {R : Room} {s : State} {m : MethodId} {args : Array Value} {below : List Frame} {meth : Method} {c : Code} {H : Heap} {locs : List Loc} {cells slots : Nat} {Q : State → Prop} {cc : ByteArray} {pc : Nat} {ls : Array Slot} {rest : List Value} {nL : Nat} {own : String} {index : Nat} {G : HG} {A : Nat → Prop} {τ : HP} {o_ : Nat} {out_ : HP} (hx : p.tables.exec = Jvm.exec) (hb : c.code = cc) (hml : c.maxLocals = nL) (hown : s.vm.findClass own = some m.cls) (hts : ∀ w ∈ lw_all, w.before args s = true) (hC : Hcx G A s) (hW : Hw G A τ H) (hS : va_S A s.heap H locs) (hd : eX2_init τ o_ = some out_) (hsz : ls.size = nL) (hrm : (rest.map fun v => v.category).sum ≤ 8) (hR : 2 ≤ R.frames ∧ 53 ≤ R.locals) (hcs : (cells + 4) ≤ R.cells ∧ (slots + 110) ≤ R.slots) (hlk : Cond.methodLink own index yX2_init ∈ lw_all) (hdg : decode cc pc = .ok (.invokespecial index, 3)) (kk : ∀ (H1 : Heap) (locs1 : List Loc), Hw G A out_ H1 → va_S A s.heap H1 locs1 → W p l e R s m args below meth c H1 locs1 (cells + 4) (slots + 110) Q (F0 m (pc + 3) ls (rest))) : W p l e R s m args below meth c H locs cells slots Q (F0 m pc ls (.ref o_ :: rest)) := by
  refine va_callv (va_runI (As := []) (rest := rest) ⟨hx, hb, hml, hown, hts⟩ (wX2_init l hd) (cwI 0 hts (lw_meth q116) rfl rfl rfl (hts _ q67) (hts _ hlk) (hts _ q115) rfl (by decide +kernel) hR) (hr_preS hC hW hS) rfl rfl hsz rfl (lv_room hrm) hdg hcs) hS (fun _ _ h => h) (fun _ h => h) (fun u t H1 locs1 ht hvm hp hB hz hk hS1 => ?_)
  have hW1 : Hw G A out_ t.heap := hB
  rw [ht] at hW1
  exact kk H1 locs1 hW1 hS1
noncomputable def bX2_joins_1 (o_ : Nat) (n11 : Int32) (v12 : Int32 × HP) : Option ((Int32 × HP) ⊕ (HP)) :=
  if (10 : Int32) ≤ v12.1 then (some (.inr v12.2)) else (if ((n11 >>> (v12.1 &&& 31)) &&& (1 : Int32)) = (1 : Int32) then (wt_bd (hgA v12.2 o_ [1] 3) fun ad25 => wt_bd (haI v12.2 ad25 0) fun z27 => wt_ck (vp_in v12.1 z27.1) <| wt_lt (hst v12.2 ad25 (.inl (0, z27.1, .inl (upd z27.2 v12.1.toNatClampNeg n11)))) fun τ30 => wt_lt (v12.1 + (1 : Int32)) fun n31 => some (.inl (n31, τ30))) else (wt_lt (v12.1 + (1 : Int32)) fun n24 => some (.inl (n24, v12.2))))
noncomputable def eX2_joins (τ : HP) (o_ : Nat) (a0 : Int32) (a1 : Int32) : Option (HP) :=
  wt_bd (hgA τ o_ [1] 3) fun ad1 => wt_bd (haI τ ad1 0) fun z3 => wt_ck (vp_in a0 z3.1) <| wt_bd (hgA τ o_ [1] 3) fun ad6 => wt_bd (haI τ ad6 0) fun z8 => wt_ck (vp_in a1 z8.1) <| wt_lt (((z3.2 a0.toNatClampNeg) ||| (z8.2 a1.toNatClampNeg))) fun n11 => wt_bd (wt_whC (bX2_joins_1 o_ n11) ((0 : Int32), τ)) fun w13 => some w13
set_option maxHeartbeats 4000000 in
theorem wX2_joins (l : Launch) {G : HG} {A : Nat → Prop} {τ : HP} {o_ : Nat} {a0 : Int32} {a1 : Int32} {out_ : HP} (hd : eX2_joins τ o_ a0 a1 = some out_) : Met l yX2_joins (ws_ yX2_joins cX2_joins 5 none) ({ frames := 0, cells := 0, slots := 0, locals := 0 }) (hPc G A τ [.ref o_, .int a0, .int a1]) (hQv G out_ A) 0 0 A := by
  refine Met.ofW (cc := cX2_joins) (maxL := 5) (ret := none) (by decide) rfl ?_
  intro p_ e_ s_ m_ args_ below_ meth_ c_ s₁_ B hml hv
  obtain ⟨rfl, hW, hC⟩ := hv
  have hx := B.exec
  have hb := B.bytes
  have hr := B.returns
  have hts := atoms_spec (ws := (ws_ yX2_joins cX2_joins 5 none)) B.pre
  have hts : ∀ w ∈ lw_all, w.before _ s_ = true := fun w h => hts w (List.mem_cons_of_mem _ h)
  have hown : s_.vm.findClass RX2 = some m_.cls := findClass_of_methodNamed B.named
  have hlocks := B.notSynchronized
  have hK := hC.1
  have hT := hC.2.1
  have hL := hC.2.2.1
  have hZ := hC.2.2.2.2.1
  have hA := hC.2.2.2.2.2
  have hS : va_S A s_.heap s_.heap [] := va_S.rf
  have hl := lv_entry ([.ref o_, .int a0, .int a1]) (n := 5) (Nat.le_of_ble_eq_true rfl)
  rw [lg_entry_eq]
  generalize (lg_sl ([.ref o_, .int a0, .int a1]) ++ List.replicate (5 - (lg_sl ([.ref o_, .int a0, .int a1])).length) Slot.unset).toArray = ls at hl ⊢
  have hl : lv_has ls 5 [(0, .ref o_), (1, .int a0), (2, .int a1)] := hl
  unfold eX2_joins at hd
  refine lv_aload_n (pc := 0) hx hb dX2_joins_0 rfl (lv_at hl 0 rfl) ?_
  obtain ⟨ad1, h2, hd⟩ := wt_bd_o hd
  refine hr_get (pc := 1) hx hb hts hown hK hW (hgA_o h2) hf_1_3 (fun _ h => h) q130 dX2_joins_1 ?_
  refine lv_iload_n (pc := 4) hx hb dX2_joins_4 rfl (lv_at hl 1 rfl) ?_
  obtain ⟨z3, h4, hd⟩ := wt_bd_o hd
  obtain ⟨h5, hd⟩ := wt_ck_o hd
  refine hr_iald (pc := 5) hx hb hK hW h4 h5 dX2_joins_5 ?_
  refine lv_aload_n (pc := 6) hx hb dX2_joins_6 rfl (lv_at hl 0 rfl) ?_
  obtain ⟨ad6, h7, hd⟩ := wt_bd_o hd
  refine hr_get (pc := 7) hx hb hts hown hK hW (hgA_o h7) hf_1_3 (fun _ h => h) q130 dX2_joins_7 ?_
  refine lv_iload_n (pc := 10) hx hb dX2_joins_10 rfl (lv_at hl 2 rfl) ?_
  obtain ⟨z8, h9, hd⟩ := wt_bd_o hd
  obtain ⟨h10, hd⟩ := wt_ck_o hd
  refine hr_iald (pc := 11) hx hb hK hW h9 h10 dX2_joins_11 ?_
  refine lv_ior (pc := 12) hx hb dX2_joins_12 ?_
  obtain ⟨n11, en11, hd⟩ := wt_lt_o hd
  refine lv_tope en11 ?_
  refine lv_istore_n (pc := 13) (lv' := [(3, .int n11), (0, .ref o_), (1, .int a0), (2, .int a1)]) hx hb dX2_joins_13 rfl hl (by decide) rfl (fun ls hl => ?_)
  refine lv_iconst (pc := 14) (v := 0) hx hb dX2_joins_14 (by decide) ?_
  refine lv_istore (pc := 15) (lv' := [(4, .int (0 : Int32)), (3, .int n11), (0, .ref o_), (1, .int a0), (2, .int a1)]) hx hb dX2_joins_15 hl (by decide) rfl (fun ls hl => ?_)
  obtain ⟨w13, hL14, hq15⟩ := wt_bd_o hd
  have hX16 : ∀ w13_ : HP, w13_ = w13 → ∀ (H : Heap) (locs : List Loc) (ls : Array Slot), Hw G A w13_ H → va_S A s_.heap H locs → lv_has ls 5 [] → W p_ l e_ (headSpec (ws_ yX2_joins cX2_joins 5 none) ({ frames := 0, cells := 0, slots := 0, locals := 0 })).room s_ m_ ([.ref o_, .int a0, .int a1] : List Value).toArray below_ meth_ c_ H locs 0 0 (MQ below_ (hQv G out_ A) ([.ref o_, .int a0, .int a1] : List Value).toArray s_ 0 0 A) (F0 m_ 48 ls []) := by
    intro w13_ hw_
    have hd := hq15
    subst hw_
    clear hL14 hq15
    intro H locs ls hW hS hl
    exact hr_vret hx hb hr hlocks (Option.some.inj hd) hW hS dX2_joins_48 (Nat.le_of_ble_eq_true rfl) (Nat.le_of_ble_eq_true rfl)
  have hI21 : ∀ (k20 : Nat) (v12 : Int32 × HP), wt_wh (bX2_joins_1 o_ n11) k20 v12 = some w13 → ∀ (H : Heap) (locs : List Loc) (ls : Array Slot), Hw G A v12.2 H → va_S A s_.heap H locs → lv_has ls 5 [(0, .ref o_), (3, .int n11), (4, .int v12.1)] → W p_ l e_ (headSpec (ws_ yX2_joins cX2_joins 5 none) ({ frames := 0, cells := 0, slots := 0, locals := 0 })).room s_ m_ ([.ref o_, .int a0, .int a1] : List Value).toArray below_ meth_ c_ H locs 0 0 (MQ below_ (hQv G out_ A) ([.ref o_, .int a0, .int a1] : List Value).toArray s_ 0 0 A) (F0 m_ 17 ls []) := by
    intro k20
    induction k20 with
    | zero => intro v12 hd; exact absurd hd wt_wh_z
    | succ k20 ih18 =>
      intro v12 hd
      intro H locs ls hW hS hl
      obtain ⟨r19, hd, hk17⟩ := wt_wh_o hd
      unfold bX2_joins_1 at hd
      refine lv_iload (pc := 17) hx hb dX2_joins_17 (lv_at hl 2 rfl) ?_
      refine lv_bipush (pc := 19) (v := 10) hx hb dX2_joins_19 (by decide) ?_
      refine lv_icmp_ge (pc := 21) (tgt := 48) hx hb dX2_joins_21 (by decide) (fun c22 => ?_) (fun c22 => ?_)
      · have hd := wt_it hd c22
        exact hX16 v12.2 (wt_exit hd hk17) _ _ _ hW hS (lv_sub hl [] rfl)
      · have hd := wt_if hd c22
        refine lv_iload_n (pc := 24) hx hb dX2_joins_24 rfl (lv_at hl 1 rfl) ?_
        refine lv_iload (pc := 25) hx hb dX2_joins_25 (lv_at hl 2 rfl) ?_
        refine lv_ishr (pc := 27) hx hb dX2_joins_27 ?_
        refine lv_iconst (pc := 28) (v := 1) hx hb dX2_joins_28 (by decide) ?_
        refine lv_iand (pc := 29) hx hb dX2_joins_29 ?_
        refine lv_iconst (pc := 30) (v := 1) hx hb dX2_joins_30 (by decide) ?_
        refine lv_icmp_ne (pc := 31) (tgt := 42) hx hb dX2_joins_31 (by decide) (fun c23 => ?_) (fun c23 => ?_)
        · have hd := wt_if hd c23
          obtain ⟨n24, en24, hd⟩ := wt_lt_o hd
          refine lv_iinc (pc := 42) (k := 2) (v := n24) (lv' := [(4, .int n24), (0, .ref o_), (3, .int n11)]) hx hb dX2_joins_42 hl rfl en24.symm (by decide) rfl (fun ls hl => ?_)
          refine lv_goto (pc := 45) (tgt := 17) hx hb dX2_joins_45 (by decide) ?_
          exact ih18 _ (wt_again hd hk17) _ _ _ hW hS (lv_sub hl [1, 2, 0] rfl)
        · have hd := wt_it hd c23
          refine lv_aload_n (pc := 34) hx hb dX2_joins_34 rfl (lv_at hl 0 rfl) ?_
          obtain ⟨ad25, h26, hd⟩ := wt_bd_o hd
          refine hr_get (pc := 35) hx hb hts hown hK hW (hgA_o h26) hf_1_3 (fun _ h => h) q130 dX2_joins_35 ?_
          refine lv_iload (pc := 38) hx hb dX2_joins_38 (lv_at hl 2 rfl) ?_
          refine lv_iload_n (pc := 40) hx hb dX2_joins_40 rfl (lv_at hl 1 rfl) ?_
          obtain ⟨z27, h28, hd⟩ := wt_bd_o hd
          obtain ⟨h29, hd⟩ := wt_ck_o hd
          obtain ⟨τ30, eτ30, hd⟩ := wt_lt_o hd
          refine hr_iast (pc := 41) hx hb hK hW hS h28 h29 eτ30 dX2_joins_41 (fun H locs hW hS => ?_)
          obtain ⟨n31, en31, hd⟩ := wt_lt_o hd
          refine lv_iinc (pc := 42) (k := 2) (v := n31) (lv' := [(4, .int n31), (0, .ref o_), (3, .int n11)]) hx hb dX2_joins_42 hl rfl en31.symm (by decide) rfl (fun ls hl => ?_)
          refine lv_goto (pc := 45) (tgt := 17) hx hb dX2_joins_45 (by decide) ?_
          exact ih18 _ (wt_again hd hk17) _ _ _ hW hS (lv_sub hl [1, 2, 0] rfl)
  obtain ⟨k20, hL14⟩ := wt_whC_o hL14
  exact hI21 k20 _ hL14 _ _ _ hW hS (lv_sub hl [2, 1, 0] rfl)
theorem kX2_joins {p : Program} {l : Launch} {e : Env} {R : Room} {s : State} {m : MethodId} {args : Array Value} {below : List Frame} {meth : Method} {c : Code} {H : Heap} {locs : List Loc} {cells slots : Nat} {Q : State → Prop} {cc : ByteArray} {pc : Nat} {ls : Array Slot} {rest : List Value} {nL : Nat} {own : String} {index : Nat} {G : HG} {A : Nat → Prop} {τ : HP} {o_ : Nat} {a0 : Int32} {a1 : Int32} {out_ : HP} (hx : p.tables.exec = Jvm.exec) (hb : c.code = cc) (hml : c.maxLocals = nL) (hown : s.vm.findClass own = some m.cls) (hts : ∀ w ∈ lw_all, w.before args s = true) (hC : Hcx G A s) (hW : Hw G A τ H) (hS : va_S A s.heap H locs) (hrc : hcl τ o_ = some 1) (hd : eX2_joins τ o_ a0 a1 = some out_) (hsz : ls.size = nL) (hrm : (rest.map fun v => v.category).sum ≤ 8) (hR : 1 ≤ R.frames ∧ 24 ≤ R.locals) (hcs : cells ≤ R.cells ∧ slots ≤ R.slots) (hlk : Cond.methodLink own index yX2_joins ∈ lw_all) (hdg : decode cc pc = .ok (.invokevirtual index, 3)) (kk : ∀ (H1 : Heap) (locs1 : List Loc), Hw G A out_ H1 → va_S A s.heap H1 locs1 → W p l e R s m args below meth c H1 locs1 cells slots Q (F0 m (pc + 3) ls (rest))) : W p l e R s m args below meth c H locs cells slots Q (F0 m pc ls (.int a1 :: .int a0 :: .ref o_ :: rest)) := by
  refine va_callv (va_runV (As := [.int a0, .int a1]) (rest := rest) ⟨hx, hb, hml, hown, hts⟩ (wX2_joins l hd) (cwV 2 hts (lw_V hlk q870 q871 q67 q872) rfl rfl rfl (by decide +kernel) hR) (hr_preV hC hW hS hrc rfl rfl) rfl rfl hsz rfl (lv_room hrm) hdg hcs) hS (fun _ _ h => h) (fun _ h => h) (fun u t H1 locs1 ht hvm hp hB hz hk hS1 => ?_)
  have hW1 : Hw G A out_ t.heap := hB
  rw [ht] at hW1
  exact kk H1 locs1 hW1 hS1
noncomputable def eX7_isTouch (o_ : Nat) (a0 : Int32) (a1 : Int32) : Option (Int32) :=
  some (0 : Int32)
set_option maxHeartbeats 4000000 in
theorem wX7_isTouch (l : Launch) {G : HG} {A : Nat → Prop} {τ : HP} {o_ : Nat} {a0 : Int32} {a1 : Int32} {out_ : Int32} (hd : eX7_isTouch o_ a0 a1 = some out_) : Met l yX7_isTouch (ws_ yX7_isTouch cX7_isTouch 3 (some .boolean)) ({ frames := 0, cells := 0, slots := 0, locals := 0 }) (hPc G A τ [.ref o_, .int a0, .int a1]) (hQi G out_ τ A) 0 0 A := by
  refine Met.ofW (cc := cX7_isTouch) (maxL := 3) (ret := (some .boolean)) (by decide) rfl ?_
  intro p_ e_ s_ m_ args_ below_ meth_ c_ s₁_ B hml hv
  obtain ⟨rfl, hW, hC⟩ := hv
  have hx := B.exec
  have hb := B.bytes
  have hr := B.returns
  have hts := atoms_spec (ws := (ws_ yX7_isTouch cX7_isTouch 3 (some .boolean))) B.pre
  have hts : ∀ w ∈ lw_all, w.before _ s_ = true := fun w h => hts w (List.mem_cons_of_mem _ h)
  have hown : s_.vm.findClass RX7 = some m_.cls := findClass_of_methodNamed B.named
  have hlocks := B.notSynchronized
  have hK := hC.1
  have hT := hC.2.1
  have hL := hC.2.2.1
  have hZ := hC.2.2.2.2.1
  have hA := hC.2.2.2.2.2
  have hS : va_S A s_.heap s_.heap [] := va_S.rf
  have hl := lv_entry ([.ref o_, .int a0, .int a1]) (n := 3) (Nat.le_of_ble_eq_true rfl)
  rw [lg_entry_eq]
  generalize (lg_sl ([.ref o_, .int a0, .int a1]) ++ List.replicate (3 - (lg_sl ([.ref o_, .int a0, .int a1])).length) Slot.unset).toArray = ls at hl ⊢
  have hl : lv_has ls 3 [(0, .ref o_), (1, .int a0), (2, .int a1)] := hl
  unfold eX7_isTouch at hd
  refine lv_iconst (pc := 0) (v := 0) hx hb dX7_isTouch_0 (by decide) ?_
  exact hr_iret hx hb hr rfl hlocks (Option.some.inj hd) rfl hW hS dX7_isTouch_1 (Nat.le_of_ble_eq_true rfl) (Nat.le_of_ble_eq_true rfl)

noncomputable def eX8_init (τ : HP) (o_ : Nat) (a0 : Int32) (a1 : Int32) (a2 : Int32) : Option (HP) :=
  wt_bd (eX7_init τ o_ a0 a2) fun w1 => wt_bd (hp w1 o_ [5] 2 (.int a1)) fun τ3 => some (τ3)
set_option maxHeartbeats 4000000 in
theorem wX8_init (l : Launch) {G : HG} {A : Nat → Prop} {τ : HP} {o_ : Nat} {a0 : Int32} {a1 : Int32} {a2 : Int32} {out_ : HP} (hd : eX8_init τ o_ a0 a1 a2 = some out_) : Met l yX8_init (ws_ yX8_init cX8_init 4 none) ({ frames := 2, cells := 0, slots := 0, locals := 54 }) (hPc G A τ [.ref o_, .int a0, .int a1, .int a2]) (hQv G out_ A) 0 0 A := by
  refine Met.ofW (cc := cX8_init) (maxL := 4) (ret := none) (by decide) rfl ?_
  intro p_ e_ s_ m_ args_ below_ meth_ c_ s₁_ B hml hv
  obtain ⟨rfl, hW, hC⟩ := hv
  have hx := B.exec
  have hb := B.bytes
  have hr := B.returns
  have hts := atoms_spec (ws := (ws_ yX8_init cX8_init 4 none)) B.pre
  have hts : ∀ w ∈ lw_all, w.before _ s_ = true := fun w h => hts w (List.mem_cons_of_mem _ h)
  have hown : s_.vm.findClass RX8 = some m_.cls := findClass_of_methodNamed B.named
  have hlocks := B.notSynchronized
  have hK := hC.1
  have hT := hC.2.1
  have hL := hC.2.2.1
  have hZ := hC.2.2.2.2.1
  have hA := hC.2.2.2.2.2
  have hin2 : meth_.name = "<init>" := (name_of_methodNamed B.named B.method).1
  have hS : va_S A s_.heap s_.heap [] := va_S.rf
  have hl := lv_entry ([.ref o_, .int a0, .int a1, .int a2]) (n := 4) (Nat.le_of_ble_eq_true rfl)
  rw [lg_entry_eq]
  generalize (lg_sl ([.ref o_, .int a0, .int a1, .int a2]) ++ List.replicate (4 - (lg_sl ([.ref o_, .int a0, .int a1, .int a2])).length) Slot.unset).toArray = ls at hl ⊢
  have hl : lv_has ls 4 [(0, .ref o_), (1, .int a0), (2, .int a1), (3, .int a2)] := hl
  unfold eX8_init at hd
  refine lv_aload_n (pc := 0) hx hb dX8_init_0 rfl (lv_at hl 0 rfl) ?_
  refine lv_iload_n (pc := 1) hx hb dX8_init_1 rfl (lv_at hl 1 rfl) ?_
  refine lv_iload_n (pc := 2) hx hb dX8_init_2 rfl (lv_at hl 3 rfl) ?_
  obtain ⟨w1, hc2, hd⟩ := wt_bd_o hd
  refine kX7_init (pc := 3) hx hb hml hown hts hC hW hS hc2 hl.1 (Nat.le_of_ble_eq_true rfl) ⟨Nat.le_of_ble_eq_true rfl, Nat.le_of_ble_eq_true rfl⟩ ⟨Nat.le_of_ble_eq_true rfl, Nat.le_of_ble_eq_true rfl⟩ q919 dX8_init_3 (fun H locs hW hS => ?_)
  refine lv_aload_n (pc := 6) hx hb dX8_init_6 rfl (lv_at hl 0 rfl) ?_
  refine lv_iload_n (pc := 7) hx hb dX8_init_7 rfl (lv_at hl 2 rfl) ?_
  obtain ⟨τ3, h4, hd⟩ := wt_bd_o hd
  refine hr_putF (pc := 8) (ty := .int) hx hb hts hown hK hin2 hW hS h4 hf_5_2 (by decide +kernel) rfl rfl q923 dX8_init_8 (fun H locs hW hS => ?_)
  exact hr_vret hx hb hr hlocks (Option.some.inj hd) hW hS dX8_init_11 (Nat.le_of_ble_eq_true rfl) (Nat.le_of_ble_eq_true rfl)
theorem kX8_init {p : Program} {l : Launch} {e : Env} {R : Room} {s : State} {m : MethodId} {args : Array Value} {below : List Frame} {meth : Method} {c : Code} {H : Heap} {locs : List Loc} {cells slots : Nat} {Q : State → Prop} {cc : ByteArray} {pc : Nat} {ls : Array Slot} {rest : List Value} {nL : Nat} {own : String} {index : Nat} {G : HG} {A : Nat → Prop} {τ : HP} {o_ : Nat} {a0 : Int32} {a1 : Int32} {a2 : Int32} {out_ : HP} (hx : p.tables.exec = Jvm.exec) (hb : c.code = cc) (hml : c.maxLocals = nL) (hown : s.vm.findClass own = some m.cls) (hts : ∀ w ∈ lw_all, w.before args s = true) (hC : Hcx G A s) (hW : Hw G A τ H) (hS : va_S A s.heap H locs) (hd : eX8_init τ o_ a0 a1 a2 = some out_) (hsz : ls.size = nL) (hrm : (rest.map fun v => v.category).sum ≤ 8) (hR : 3 ≤ R.frames ∧ 77 ≤ R.locals) (hcs : cells ≤ R.cells ∧ slots ≤ R.slots) (hlk : Cond.methodLink own index yX8_init ∈ lw_all) (hdg : decode cc pc = .ok (.invokespecial index, 3)) (kk : ∀ (H1 : Heap) (locs1 : List Loc), Hw G A out_ H1 → va_S A s.heap H1 locs1 → W p l e R s m args below meth c H1 locs1 cells slots Q (F0 m (pc + 3) ls (rest))) : W p l e R s m args below meth c H locs cells slots Q (F0 m pc ls (.int a2 :: .int a1 :: .int a0 :: .ref o_ :: rest)) := by
  refine va_callv (va_runI (As := [.int a0, .int a1, .int a2]) (rest := rest) ⟨hx, hb, hml, hown, hts⟩ (wX8_init l hd) (cwI 3 hts (lw_meth q918) rfl rfl rfl (hts _ q92) (hts _ hlk) (hts _ q917) rfl (by decide +kernel) hR) (hr_preS hC hW hS) rfl rfl hsz rfl (lv_room hrm) hdg hcs) hS (fun _ _ h => h) (fun _ h => h) (fun u t H1 locs1 ht hvm hp hB hz hk hS1 => ?_)
  have hW1 : Hw G A out_ t.heap := hB
  rw [ht] at hW1
  exact kk H1 locs1 hW1 hS1
noncomputable def eX8_does (τ : HP) (o_ : Nat) (a0 : Nat) : Option (HP) :=
  wt_bd (hgA τ a0 [9] 2) fun ad1 => wt_bd (hgI τ o_ [5] 0) fun f3 => wt_bd (hgI τ o_ [5] 2) fun f5 => wt_bd (haI τ ad1 0) fun z7 => wt_ck (vp_in f3 z7.1) <| wt_lt (hst τ ad1 (.inl (0, z7.1, .inl (upd z7.2 f3.toNatClampNeg f5)))) fun τ10 => some (τ10)
set_option maxHeartbeats 4000000 in
theorem wX8_does (l : Launch) {G : HG} {A : Nat → Prop} {τ : HP} {o_ : Nat} {a0 : Nat} {out_ : HP} (hd : eX8_does τ o_ a0 = some out_) : Met l yX8_does (ws_ yX8_does cX8_does 2 none) ({ frames := 0, cells := 0, slots := 0, locals := 0 }) (hPc G A τ [.ref o_, .ref a0]) (hQv G out_ A) 0 0 A := by
  refine Met.ofW (cc := cX8_does) (maxL := 2) (ret := none) (by decide) rfl ?_
  intro p_ e_ s_ m_ args_ below_ meth_ c_ s₁_ B hml hv
  obtain ⟨rfl, hW, hC⟩ := hv
  have hx := B.exec
  have hb := B.bytes
  have hr := B.returns
  have hts := atoms_spec (ws := (ws_ yX8_does cX8_does 2 none)) B.pre
  have hts : ∀ w ∈ lw_all, w.before _ s_ = true := fun w h => hts w (List.mem_cons_of_mem _ h)
  have hown : s_.vm.findClass RX8 = some m_.cls := findClass_of_methodNamed B.named
  have hlocks := B.notSynchronized
  have hK := hC.1
  have hT := hC.2.1
  have hL := hC.2.2.1
  have hZ := hC.2.2.2.2.1
  have hA := hC.2.2.2.2.2
  have hS : va_S A s_.heap s_.heap [] := va_S.rf
  have hl := lv_entry ([.ref o_, .ref a0]) (n := 2) (Nat.le_of_ble_eq_true rfl)
  rw [lg_entry_eq]
  generalize (lg_sl ([.ref o_, .ref a0]) ++ List.replicate (2 - (lg_sl ([.ref o_, .ref a0])).length) Slot.unset).toArray = ls at hl ⊢
  have hl : lv_has ls 2 [(0, .ref o_), (1, .ref a0)] := hl
  unfold eX8_does at hd
  refine lv_aload_n (pc := 0) hx hb dX8_does_0 rfl (lv_at hl 1 rfl) ?_
  obtain ⟨ad1, h2, hd⟩ := wt_bd_o hd
  refine hr_getN (pc := 1) hx hb hts hown hK hT hW (hgA_o h2) hf_9_2 (fun _ h => h) q1082 dX8_does_1 ?_
  refine lv_aload_n (pc := 4) hx hb dX8_does_4 rfl (lv_at hl 0 rfl) ?_
  obtain ⟨f3, h4, hd⟩ := wt_bd_o hd
  refine hr_get (pc := 5) hx hb hts hown hK hW (hgI_o h4) hf_5_0 (u_same (hts _ q930)) q929 dX8_does_5 ?_
  refine lv_aload_n (pc := 8) hx hb dX8_does_8 rfl (lv_at hl 0 rfl) ?_
  obtain ⟨f5, h6, hd⟩ := wt_bd_o hd
  refine hr_get (pc := 9) hx hb hts hown hK hW (hgI_o h6) hf_5_2 (fun _ h => h) q923 dX8_does_9 ?_
  obtain ⟨z7, h8, hd⟩ := wt_bd_o hd
  obtain ⟨h9, hd⟩ := wt_ck_o hd
  obtain ⟨τ10, eτ10, hd⟩ := wt_lt_o hd
  refine hr_iast (pc := 12) hx hb hK hW hS h8 h9 eτ10 dX8_does_12 (fun H locs hW hS => ?_)
  exact hr_vret hx hb hr hlocks (Option.some.inj hd) hW hS dX8_does_13 (Nat.le_of_ble_eq_true rfl) (Nat.le_of_ble_eq_true rfl)

noncomputable def eX9_init (τ : HP) (o_ : Nat) (a0 : Int32) (a1 : Int32) (a2 : Int32) : Option (HP) :=
  wt_bd (eX7_init τ o_ a0 a2) fun w1 => wt_bd (hp w1 o_ [6] 2 (.int a1)) fun τ3 => some (τ3)
set_option maxHeartbeats 4000000 in
theorem wX9_init (l : Launch) {G : HG} {A : Nat → Prop} {τ : HP} {o_ : Nat} {a0 : Int32} {a1 : Int32} {a2 : Int32} {out_ : HP} (hd : eX9_init τ o_ a0 a1 a2 = some out_) : Met l yX9_init (ws_ yX9_init cX9_init 4 none) ({ frames := 2, cells := 0, slots := 0, locals := 54 }) (hPc G A τ [.ref o_, .int a0, .int a1, .int a2]) (hQv G out_ A) 0 0 A := by
  refine Met.ofW (cc := cX9_init) (maxL := 4) (ret := none) (by decide) rfl ?_
  intro p_ e_ s_ m_ args_ below_ meth_ c_ s₁_ B hml hv
  obtain ⟨rfl, hW, hC⟩ := hv
  have hx := B.exec
  have hb := B.bytes
  have hr := B.returns
  have hts := atoms_spec (ws := (ws_ yX9_init cX9_init 4 none)) B.pre
  have hts : ∀ w ∈ lw_all, w.before _ s_ = true := fun w h => hts w (List.mem_cons_of_mem _ h)
  have hown : s_.vm.findClass RX9 = some m_.cls := findClass_of_methodNamed B.named
  have hlocks := B.notSynchronized
  have hK := hC.1
  have hT := hC.2.1
  have hL := hC.2.2.1
  have hZ := hC.2.2.2.2.1
  have hA := hC.2.2.2.2.2
  have hin2 : meth_.name = "<init>" := (name_of_methodNamed B.named B.method).1
  have hS : va_S A s_.heap s_.heap [] := va_S.rf
  have hl := lv_entry ([.ref o_, .int a0, .int a1, .int a2]) (n := 4) (Nat.le_of_ble_eq_true rfl)
  rw [lg_entry_eq]
  generalize (lg_sl ([.ref o_, .int a0, .int a1, .int a2]) ++ List.replicate (4 - (lg_sl ([.ref o_, .int a0, .int a1, .int a2])).length) Slot.unset).toArray = ls at hl ⊢
  have hl : lv_has ls 4 [(0, .ref o_), (1, .int a0), (2, .int a1), (3, .int a2)] := hl
  unfold eX9_init at hd
  refine lv_aload_n (pc := 0) hx hb dX9_init_0 rfl (lv_at hl 0 rfl) ?_
  refine lv_iload_n (pc := 1) hx hb dX9_init_1 rfl (lv_at hl 1 rfl) ?_
  refine lv_iload_n (pc := 2) hx hb dX9_init_2 rfl (lv_at hl 3 rfl) ?_
  obtain ⟨w1, hc2, hd⟩ := wt_bd_o hd
  refine kX7_init (pc := 3) hx hb hml hown hts hC hW hS hc2 hl.1 (Nat.le_of_ble_eq_true rfl) ⟨Nat.le_of_ble_eq_true rfl, Nat.le_of_ble_eq_true rfl⟩ ⟨Nat.le_of_ble_eq_true rfl, Nat.le_of_ble_eq_true rfl⟩ q949 dX9_init_3 (fun H locs hW hS => ?_)
  refine lv_aload_n (pc := 6) hx hb dX9_init_6 rfl (lv_at hl 0 rfl) ?_
  refine lv_iload_n (pc := 7) hx hb dX9_init_7 rfl (lv_at hl 2 rfl) ?_
  obtain ⟨τ3, h4, hd⟩ := wt_bd_o hd
  refine hr_putF (pc := 8) (ty := .int) hx hb hts hown hK hin2 hW hS h4 hf_6_2 (by decide +kernel) rfl rfl q950 dX9_init_8 (fun H locs hW hS => ?_)
  exact hr_vret hx hb hr hlocks (Option.some.inj hd) hW hS dX9_init_11 (Nat.le_of_ble_eq_true rfl) (Nat.le_of_ble_eq_true rfl)
theorem kX9_init {p : Program} {l : Launch} {e : Env} {R : Room} {s : State} {m : MethodId} {args : Array Value} {below : List Frame} {meth : Method} {c : Code} {H : Heap} {locs : List Loc} {cells slots : Nat} {Q : State → Prop} {cc : ByteArray} {pc : Nat} {ls : Array Slot} {rest : List Value} {nL : Nat} {own : String} {index : Nat} {G : HG} {A : Nat → Prop} {τ : HP} {o_ : Nat} {a0 : Int32} {a1 : Int32} {a2 : Int32} {out_ : HP} (hx : p.tables.exec = Jvm.exec) (hb : c.code = cc) (hml : c.maxLocals = nL) (hown : s.vm.findClass own = some m.cls) (hts : ∀ w ∈ lw_all, w.before args s = true) (hC : Hcx G A s) (hW : Hw G A τ H) (hS : va_S A s.heap H locs) (hd : eX9_init τ o_ a0 a1 a2 = some out_) (hsz : ls.size = nL) (hrm : (rest.map fun v => v.category).sum ≤ 8) (hR : 3 ≤ R.frames ∧ 77 ≤ R.locals) (hcs : cells ≤ R.cells ∧ slots ≤ R.slots) (hlk : Cond.methodLink own index yX9_init ∈ lw_all) (hdg : decode cc pc = .ok (.invokespecial index, 3)) (kk : ∀ (H1 : Heap) (locs1 : List Loc), Hw G A out_ H1 → va_S A s.heap H1 locs1 → W p l e R s m args below meth c H1 locs1 cells slots Q (F0 m (pc + 3) ls (rest))) : W p l e R s m args below meth c H locs cells slots Q (F0 m pc ls (.int a2 :: .int a1 :: .int a0 :: .ref o_ :: rest)) := by
  refine va_callv (va_runI (As := [.int a0, .int a1, .int a2]) (rest := rest) ⟨hx, hb, hml, hown, hts⟩ (wX9_init l hd) (cwI 3 hts (lw_meth q948) rfl rfl rfl (hts _ q94) (hts _ hlk) (hts _ q947) rfl (by decide +kernel) hR) (hr_preS hC hW hS) rfl rfl hsz rfl (lv_room hrm) hdg hcs) hS (fun _ _ h => h) (fun _ h => h) (fun u t H1 locs1 ht hvm hp hB hz hk hS1 => ?_)
  have hW1 : Hw G A out_ t.heap := hB
  rw [ht] at hW1
  exact kk H1 locs1 hW1 hS1
noncomputable def eX9_isTouch (τ : HP) (o_ : Nat) (a0 : Int32) (a1 : Int32) : Option (Int32) :=
  wt_bd (hgI τ o_ [6] 0) fun f1 => wt_bd (if f1 = a0 then (wt_bd (hgI τ o_ [6] 2) fun f8 => if f8 = a1 then (some (.inr (1 : Int32))) else (some (.inl ()))) else (some (.inl ()))) fun w3 => wt_rs w3 (fun w3 => wt_bd (hgI τ o_ [6] 0) fun f11 => if f11 = a1 then (wt_bd (hgI τ o_ [6] 2) fun f14 => if f14 = a0 then (some (1 : Int32)) else (some (0 : Int32))) else (some (0 : Int32))) (fun z_ => some z_)
set_option maxHeartbeats 4000000 in
theorem wX9_isTouch (l : Launch) {G : HG} {A : Nat → Prop} {τ : HP} {o_ : Nat} {a0 : Int32} {a1 : Int32} {out_ : Int32} (hd : eX9_isTouch τ o_ a0 a1 = some out_) : Met l yX9_isTouch (ws_ yX9_isTouch cX9_isTouch 3 (some .boolean)) ({ frames := 0, cells := 0, slots := 0, locals := 0 }) (hPc G A τ [.ref o_, .int a0, .int a1]) (hQi G out_ τ A) 0 0 A := by
  refine Met.ofW (cc := cX9_isTouch) (maxL := 3) (ret := (some .boolean)) (by decide) rfl ?_
  intro p_ e_ s_ m_ args_ below_ meth_ c_ s₁_ B hml hv
  obtain ⟨rfl, hW, hC⟩ := hv
  have hx := B.exec
  have hb := B.bytes
  have hr := B.returns
  have hts := atoms_spec (ws := (ws_ yX9_isTouch cX9_isTouch 3 (some .boolean))) B.pre
  have hts : ∀ w ∈ lw_all, w.before _ s_ = true := fun w h => hts w (List.mem_cons_of_mem _ h)
  have hown : s_.vm.findClass RX9 = some m_.cls := findClass_of_methodNamed B.named
  have hlocks := B.notSynchronized
  have hK := hC.1
  have hT := hC.2.1
  have hL := hC.2.2.1
  have hZ := hC.2.2.2.2.1
  have hA := hC.2.2.2.2.2
  have hS : va_S A s_.heap s_.heap [] := va_S.rf
  have hl := lv_entry ([.ref o_, .int a0, .int a1]) (n := 3) (Nat.le_of_ble_eq_true rfl)
  rw [lg_entry_eq]
  generalize (lg_sl ([.ref o_, .int a0, .int a1]) ++ List.replicate (3 - (lg_sl ([.ref o_, .int a0, .int a1])).length) Slot.unset).toArray = ls at hl ⊢
  have hl : lv_has ls 3 [(0, .ref o_), (1, .int a0), (2, .int a1)] := hl
  unfold eX9_isTouch at hd
  refine lv_aload_n (pc := 0) hx hb dX9_isTouch_0 rfl (lv_at hl 0 rfl) ?_
  obtain ⟨f1, h2, hd⟩ := wt_bd_o hd
  refine hr_get (pc := 1) hx hb hts hown hK hW (hgI_o h2) hf_6_0 (u_same (hts _ q928)) q927 dX9_isTouch_1 ?_
  refine lv_iload_n (pc := 4) hx hb dX9_isTouch_4 rfl (lv_at hl 1 rfl) ?_
  obtain ⟨w3, hj4, hq5⟩ := wt_bd_o hd
  have hX6 : ∀ w3_ : Unit, (Sum.inl w3_ : (Unit) ⊕ _) = w3 → ∀ (H : Heap) (locs : List Loc) (ls : Array Slot), Hw G A τ H → va_S A s_.heap H locs → lv_has ls 3 [(0, .ref o_), (1, .int a0), (2, .int a1)] → W p_ l e_ (headSpec (ws_ yX9_isTouch cX9_isTouch 3 (some .boolean)) ({ frames := 0, cells := 0, slots := 0, locals := 0 })).room s_ m_ ([.ref o_, .int a0, .int a1] : List Value).toArray below_ meth_ c_ H locs 0 0 (MQ below_ (hQi G out_ τ A) ([.ref o_, .int a0, .int a1] : List Value).toArray s_ 0 0 A) (F0 m_ 16 ls []) := by
    intro w3_ hw_
    have hd := wt_rs_l hw_ hq5
    clear hj4 hq5
    intro H locs ls hW hS hl
    refine lv_aload_n (pc := 16) hx hb dX9_isTouch_16 rfl (lv_at hl 0 rfl) ?_
    obtain ⟨f11, h12, hd⟩ := wt_bd_o hd
    refine hr_get (pc := 17) hx hb hts hown hK hW (hgI_o h12) hf_6_0 (u_same (hts _ q928)) q927 dX9_isTouch_17 ?_
    refine lv_iload_n (pc := 20) hx hb dX9_isTouch_20 rfl (lv_at hl 2 rfl) ?_
    refine lv_icmp_ne (pc := 21) (tgt := 36) hx hb dX9_isTouch_21 (by decide) (fun c13 => ?_) (fun c13 => ?_)
    · have hd := wt_if hd c13
      refine lv_iconst (pc := 36) (v := 0) hx hb dX9_isTouch_36 (by decide) ?_
      exact hr_iret hx hb hr rfl hlocks (Option.some.inj hd) rfl hW hS dX9_isTouch_37 (Nat.le_of_ble_eq_true rfl) (Nat.le_of_ble_eq_true rfl)
    · have hd := wt_it hd c13
      refine lv_aload_n (pc := 24) hx hb dX9_isTouch_24 rfl (lv_at hl 0 rfl) ?_
      obtain ⟨f14, h15, hd⟩ := wt_bd_o hd
      refine hr_get (pc := 25) hx hb hts hown hK hW (hgI_o h15) hf_6_2 (fun _ h => h) q950 dX9_isTouch_25 ?_
      refine lv_iload_n (pc := 28) hx hb dX9_isTouch_28 rfl (lv_at hl 1 rfl) ?_
      refine lv_icmp_ne (pc := 29) (tgt := 36) hx hb dX9_isTouch_29 (by decide) (fun c16 => ?_) (fun c16 => ?_)
      · have hd := wt_if hd c16
        refine lv_iconst (pc := 36) (v := 0) hx hb dX9_isTouch_36 (by decide) ?_
        exact hr_iret hx hb hr rfl hlocks (Option.some.inj hd) rfl hW hS dX9_isTouch_37 (Nat.le_of_ble_eq_true rfl) (Nat.le_of_ble_eq_true rfl)
      · have hd := wt_it hd c16
        refine lv_iconst (pc := 32) (v := 1) hx hb dX9_isTouch_32 (by decide) ?_
        refine lv_goto (pc := 33) (tgt := 37) hx hb dX9_isTouch_33 (by decide) ?_
        exact hr_iret hx hb hr rfl hlocks (Option.some.inj hd) rfl hW hS dX9_isTouch_37 (Nat.le_of_ble_eq_true rfl) (Nat.le_of_ble_eq_true rfl)
  have hd := hj4
  refine lv_icmp_ne (pc := 5) (tgt := 16) hx hb dX9_isTouch_5 (by decide) (fun c7 => ?_) (fun c7 => ?_)
  · have hd := wt_if hd c7
    exact hX6 () (Option.some.inj hd) _ _ _ hW hS hl
  · have hd := wt_it hd c7
    refine lv_aload_n (pc := 8) hx hb dX9_isTouch_8 rfl (lv_at hl 0 rfl) ?_
    obtain ⟨f8, h9, hd⟩ := wt_bd_o hd
    refine hr_get (pc := 9) hx hb hts hown hK hW (hgI_o h9) hf_6_2 (fun _ h => h) q950 dX9_isTouch_9 ?_
    refine lv_iload_n (pc := 12) hx hb dX9_isTouch_12 rfl (lv_at hl 2 rfl) ?_
    refine lv_icmp_eq (pc := 13) (tgt := 32) hx hb dX9_isTouch_13 (by decide) (fun c10 => ?_) (fun c10 => ?_)
    · have hd := wt_it hd c10
      refine lv_iconst (pc := 32) (v := 1) hx hb dX9_isTouch_32 (by decide) ?_
      refine lv_goto (pc := 33) (tgt := 37) hx hb dX9_isTouch_33 (by decide) ?_
      have hd := wt_rs_r (Option.some.inj hd) hq5
      exact hr_iret hx hb hr rfl hlocks (Option.some.inj hd) rfl hW hS dX9_isTouch_37 (Nat.le_of_ble_eq_true rfl) (Nat.le_of_ble_eq_true rfl)
    · have hd := wt_if hd c10
      exact hX6 () (Option.some.inj hd) _ _ _ hW hS hl

noncomputable def eX9_does (τ : HP) (o_ : Nat) (a0 : Nat) : Option (HP) :=
  wt_bd (hgI τ o_ [6] 0) fun f1 => wt_bd (hgI τ o_ [6] 2) fun f3 => wt_ck (hcl τ a0 = some 9) <| wt_bd (eX12_touch τ a0 f1 f3) fun w6 => some w6
set_option maxHeartbeats 4000000 in
theorem wX9_does (l : Launch) {G : HG} {A : Nat → Prop} {τ : HP} {o_ : Nat} {a0 : Nat} {out_ : HP} (hd : eX9_does τ o_ a0 = some out_) : Met l yX9_does (ws_ yX9_does cX9_does 2 none) ({ frames := 2, cells := 0, slots := 0, locals := 59 }) (hPc G A τ [.ref o_, .ref a0]) (hQv G out_ A) 0 0 A := by
  refine Met.ofW (cc := cX9_does) (maxL := 2) (ret := none) (by decide) rfl ?_
  intro p_ e_ s_ m_ args_ below_ meth_ c_ s₁_ B hml hv
  obtain ⟨rfl, hW, hC⟩ := hv
  have hx := B.exec
  have hb := B.bytes
  have hr := B.returns
  have hts := atoms_spec (ws := (ws_ yX9_does cX9_does 2 none)) B.pre
  have hts : ∀ w ∈ lw_all, w.before _ s_ = true := fun w h => hts w (List.mem_cons_of_mem _ h)
  have hown : s_.vm.findClass RX9 = some m_.cls := findClass_of_methodNamed B.named
  have hlocks := B.notSynchronized
  have hK := hC.1
  have hT := hC.2.1
  have hL := hC.2.2.1
  have hZ := hC.2.2.2.2.1
  have hA := hC.2.2.2.2.2
  have hS : va_S A s_.heap s_.heap [] := va_S.rf
  have hl := lv_entry ([.ref o_, .ref a0]) (n := 2) (Nat.le_of_ble_eq_true rfl)
  rw [lg_entry_eq]
  generalize (lg_sl ([.ref o_, .ref a0]) ++ List.replicate (2 - (lg_sl ([.ref o_, .ref a0])).length) Slot.unset).toArray = ls at hl ⊢
  have hl : lv_has ls 2 [(0, .ref o_), (1, .ref a0)] := hl
  unfold eX9_does at hd
  refine lv_aload_n (pc := 0) hx hb dX9_does_0 rfl (lv_at hl 1 rfl) ?_
  refine lv_aload_n (pc := 1) hx hb dX9_does_1 rfl (lv_at hl 0 rfl) ?_
  obtain ⟨f1, h2, hd⟩ := wt_bd_o hd
  refine hr_get (pc := 2) hx hb hts hown hK hW (hgI_o h2) hf_6_0 (u_same (hts _ q928)) q927 dX9_does_2 ?_
  refine lv_aload_n (pc := 5) hx hb dX9_does_5 rfl (lv_at hl 0 rfl) ?_
  obtain ⟨f3, h4, hd⟩ := wt_bd_o hd
  refine hr_get (pc := 6) hx hb hts hown hK hW (hgI_o h4) hf_6_2 (fun _ h => h) q950 dX9_does_6 ?_
  obtain ⟨h5, hd⟩ := wt_ck_o hd
  obtain ⟨w6, hc7, hd⟩ := wt_bd_o hd
  refine kX12_touch (pc := 9) hx hb hml hown hts hC hW hS h5 hc7 hl.1 (Nat.le_of_ble_eq_true rfl) ⟨Nat.le_of_ble_eq_true rfl, Nat.le_of_ble_eq_true rfl⟩ ⟨Nat.le_of_ble_eq_true rfl, Nat.le_of_ble_eq_true rfl⟩ q1125 dX9_does_9 (fun H locs hW hS => ?_)
  exact hr_vret hx hb hr hlocks (Option.some.inj hd) hW hS dX9_does_12 (Nat.le_of_ble_eq_true rfl) (Nat.le_of_ble_eq_true rfl)

theorem kU_X8_does_5 {p : Program} {l : Launch} {e : Env} {R : Room} {s : State} {m : MethodId} {args : Array Value} {below : List Frame} {meth : Method} {c : Code} {H : Heap} {locs : List Loc} {cells slots : Nat} {Q : State → Prop} {cc : ByteArray} {pc : Nat} {ls : Array Slot} {rest : List Value} {nL : Nat} {own : String} {index : Nat} {G : HG} {A : Nat → Prop} {τ : HP} {o_ : Nat} {a0 : Nat} {out_ : HP} (hx : p.tables.exec = Jvm.exec) (hb : c.code = cc) (hml : c.maxLocals = nL) (hown : s.vm.findClass own = some m.cls) (hts : ∀ w ∈ lw_all, w.before args s = true) (hC : Hcx G A s) (hW : Hw G A τ H) (hS : va_S A s.heap H locs) (hrc : hcl τ o_ = some 5) (hd : eX8_does τ o_ a0 = some out_) (hsz : ls.size = nL) (hrm : (rest.map fun v => v.category).sum ≤ 8) (hR : 1 ≤ R.frames ∧ 21 ≤ R.locals) (hcs : cells ≤ R.cells ∧ slots ≤ R.slots) (hlk : Cond.methodLink own index ⟨"WoolThreads$Event", "does", "(LWoolThreads$Scene;)V"⟩ ∈ lw_all) (hdg : decode cc pc = .ok (.invokevirtual index, 3)) (kk : ∀ (H1 : Heap) (locs1 : List Loc), Hw G A out_ H1 → va_S A s.heap H1 locs1 → W p l e R s m args below meth c H1 locs1 cells slots Q (F0 m (pc + 3) ls (rest))) : W p l e R s m args below meth c H locs cells slots Q (F0 m pc ls (.ref a0 :: .ref o_ :: rest)) := by
  refine va_callv (va_runU (As := [.ref a0]) (rest := rest) ⟨hx, hb, hml, hown, hts⟩ (wX8_does l hd) (va_cwA (C := "WoolThreads$Wear") (owner := "WoolThreads$Event") (x := ⟨"WoolThreads$Event", "does", "(LWoolThreads$Scene;)V"⟩) 1 hts (lw_U hlk q1114 q1134 q1135 q92 q1136) rfl rfl rfl (hC.2.1.1 _ (hw_of q1113 rfl)) (by decide +kernel) hR) (hr_preV hC hW hS hrc rfl rfl) rfl rfl hsz rfl (lv_room hrm) hdg hcs) hS (fun _ _ h => h) (fun _ h => h) (fun u t H1 locs1 ht hvm hp hB hz hk hS1 => ?_)
  have hW1 : Hw G A out_ t.heap := hB
  rw [ht] at hW1
  exact kk H1 locs1 hW1 hS1
theorem kU_X9_does_6 {p : Program} {l : Launch} {e : Env} {R : Room} {s : State} {m : MethodId} {args : Array Value} {below : List Frame} {meth : Method} {c : Code} {H : Heap} {locs : List Loc} {cells slots : Nat} {Q : State → Prop} {cc : ByteArray} {pc : Nat} {ls : Array Slot} {rest : List Value} {nL : Nat} {own : String} {index : Nat} {G : HG} {A : Nat → Prop} {τ : HP} {o_ : Nat} {a0 : Nat} {out_ : HP} (hx : p.tables.exec = Jvm.exec) (hb : c.code = cc) (hml : c.maxLocals = nL) (hown : s.vm.findClass own = some m.cls) (hts : ∀ w ∈ lw_all, w.before args s = true) (hC : Hcx G A s) (hW : Hw G A τ H) (hS : va_S A s.heap H locs) (hrc : hcl τ o_ = some 6) (hd : eX9_does τ o_ a0 = some out_) (hsz : ls.size = nL) (hrm : (rest.map fun v => v.category).sum ≤ 8) (hR : 3 ≤ R.frames ∧ 80 ≤ R.locals) (hcs : cells ≤ R.cells ∧ slots ≤ R.slots) (hlk : Cond.methodLink own index ⟨"WoolThreads$Event", "does", "(LWoolThreads$Scene;)V"⟩ ∈ lw_all) (hdg : decode cc pc = .ok (.invokevirtual index, 3)) (kk : ∀ (H1 : Heap) (locs1 : List Loc), Hw G A out_ H1 → va_S A s.heap H1 locs1 → W p l e R s m args below meth c H1 locs1 cells slots Q (F0 m (pc + 3) ls (rest))) : W p l e R s m args below meth c H locs cells slots Q (F0 m pc ls (.ref a0 :: .ref o_ :: rest)) := by
  refine va_callv (va_runU (As := [.ref a0]) (rest := rest) ⟨hx, hb, hml, hown, hts⟩ (wX9_does l hd) (va_cwA (C := "WoolThreads$Touch") (owner := "WoolThreads$Event") (x := ⟨"WoolThreads$Event", "does", "(LWoolThreads$Scene;)V"⟩) 1 hts (lw_U hlk q1114 q1122 q1123 q94 q1124) rfl rfl rfl (hC.2.1.1 _ (hw_of q1113 rfl)) (by decide +kernel) hR) (hr_preV hC hW hS hrc rfl rfl) rfl rfl hsz rfl (lv_room hrm) hdg hcs) hS (fun _ _ h => h) (fun _ h => h) (fun u t H1 locs1 ht hvm hp hB hz hk hS1 => ?_)
  have hW1 : Hw G A out_ t.heap := hB
  rw [ht] at hW1
  exact kk H1 locs1 hW1 hS1
theorem kU_X10_does_7 {p : Program} {l : Launch} {e : Env} {R : Room} {s : State} {m : MethodId} {args : Array Value} {below : List Frame} {meth : Method} {c : Code} {H : Heap} {locs : List Loc} {cells slots : Nat} {Q : State → Prop} {cc : ByteArray} {pc : Nat} {ls : Array Slot} {rest : List Value} {nL : Nat} {own : String} {index : Nat} {G : HG} {A : Nat → Prop} {τ : HP} {o_ : Nat} {a0 : Nat} {out_ : HP} (hx : p.tables.exec = Jvm.exec) (hb : c.code = cc) (hml : c.maxLocals = nL) (hown : s.vm.findClass own = some m.cls) (hts : ∀ w ∈ lw_all, w.before args s = true) (hC : Hcx G A s) (hW : Hw G A τ H) (hS : va_S A s.heap H locs) (hrc : hcl τ o_ = some 7) (hd : eX10_does τ o_ a0 = some out_) (hsz : ls.size = nL) (hrm : (rest.map fun v => v.category).sum ≤ 8) (hR : 2 ≤ R.frames ∧ 44 ≤ R.locals) (hcs : cells ≤ R.cells ∧ slots ≤ R.slots) (hlk : Cond.methodLink own index ⟨"WoolThreads$Event", "does", "(LWoolThreads$Scene;)V"⟩ ∈ lw_all) (hdg : decode cc pc = .ok (.invokevirtual index, 3)) (kk : ∀ (H1 : Heap) (locs1 : List Loc), Hw G A out_ H1 → va_S A s.heap H1 locs1 → W p l e R s m args below meth c H1 locs1 cells slots Q (F0 m (pc + 3) ls (rest))) : W p l e R s m args below meth c H locs cells slots Q (F0 m pc ls (.ref a0 :: .ref o_ :: rest)) := by
  refine va_callv (va_runU (As := [.ref a0]) (rest := rest) ⟨hx, hb, hml, hown, hts⟩ (wX10_does l hd) (va_cwA (C := "WoolThreads$Stay") (owner := "WoolThreads$Event") (x := ⟨"WoolThreads$Event", "does", "(LWoolThreads$Scene;)V"⟩) 1 hts (lw_U hlk q1114 q1115 q1116 q95 q1117) rfl rfl rfl (hC.2.1.1 _ (hw_of q1113 rfl)) (by decide +kernel) hR) (hr_preV hC hW hS hrc rfl rfl) rfl rfl hsz rfl (lv_room hrm) hdg hcs) hS (fun _ _ h => h) (fun _ h => h) (fun u t H1 locs1 ht hvm hp hB hz hk hS1 => ?_)
  have hW1 : Hw G A out_ t.heap := hB
  rw [ht] at hW1
  exact kk H1 locs1 hW1 hS1
noncomputable def eEv_does (τ : HP) (o_ : Nat) (a0 : Nat) : Option HP := wt_bd (hcl τ o_) fun c => if c = 5 then eX8_does τ o_ a0 else if c = 6 then eX9_does τ o_ a0 else if c = 7 then eX10_does τ o_ a0 else none
theorem kEv_does {p : Program} {l : Launch} {e : Env} {R : Room} {s : State} {m : MethodId} {args : Array Value} {below : List Frame} {meth : Method} {c : Code} {H : Heap} {locs : List Loc} {cells slots : Nat} {Q : State → Prop} {cc : ByteArray} {pc : Nat} {ls : Array Slot} {rest : List Value} {nL : Nat} {own : String} {index : Nat} {G : HG} {A : Nat → Prop} {τ : HP} {o_ : Nat} {a0 : Nat} {out_ : HP} (hx : p.tables.exec = Jvm.exec) (hb : c.code = cc) (hml : c.maxLocals = nL) (hown : s.vm.findClass own = some m.cls) (hts : ∀ w ∈ lw_all, w.before args s = true) (hC : Hcx G A s) (hW : Hw G A τ H) (hS : va_S A s.heap H locs) (hd : eEv_does τ o_ a0 = some out_) (hsz : ls.size = nL) (hrm : (rest.map fun v => v.category).sum ≤ 8) (hR : 3 ≤ R.frames ∧ 80 ≤ R.locals) (hcs : cells ≤ R.cells ∧ slots ≤ R.slots) (hlk : Cond.methodLink own index ⟨"WoolThreads$Event", "does", "(LWoolThreads$Scene;)V"⟩ ∈ lw_all) (hdg : decode cc pc = .ok (.invokevirtual index, 3)) (kk : ∀ (H1 : Heap) (locs1 : List Loc), Hw G A out_ H1 → va_S A s.heap H1 locs1 → W p l e R s m args below meth c H1 locs1 cells slots Q (F0 m (pc + 3) ls (rest))) : W p l e R s m args below meth c H locs cells slots Q (F0 m pc ls (.ref a0 :: .ref o_ :: rest)) := by
  unfold eEv_does at hd
  obtain ⟨c0, hc0, hd⟩ := wt_bd_o hd
  by_cases e5 : c0 = 5
  · have hd := wt_it hd e5
    subst e5
    exact kU_X8_does_5 hx hb hml hown hts hC hW hS hc0 hd hsz hrm ⟨Nat.le_trans (by decide) hR.1, Nat.le_trans (by decide) hR.2⟩ hcs hlk hdg kk
  have hd := wt_if hd e5
  by_cases e6 : c0 = 6
  · have hd := wt_it hd e6
    subst e6
    exact kU_X9_does_6 hx hb hml hown hts hC hW hS hc0 hd hsz hrm ⟨Nat.le_trans (by decide) hR.1, Nat.le_trans (by decide) hR.2⟩ hcs hlk hdg kk
  have hd := wt_if hd e6
  by_cases e7 : c0 = 7
  · have hd := wt_it hd e7
    subst e7
    exact kU_X10_does_7 hx hb hml hown hts hC hW hS hc0 hd hsz hrm ⟨Nat.le_trans (by decide) hR.1, Nat.le_trans (by decide) hR.2⟩ hcs hlk hdg kk
  have hd := wt_if hd e7
  cases hd
theorem kU_X7_isTouch_5 {p : Program} {l : Launch} {e : Env} {R : Room} {s : State} {m : MethodId} {args : Array Value} {below : List Frame} {meth : Method} {c : Code} {H : Heap} {locs : List Loc} {cells slots : Nat} {Q : State → Prop} {cc : ByteArray} {pc : Nat} {ls : Array Slot} {rest : List Value} {nL : Nat} {own : String} {index : Nat} {G : HG} {A : Nat → Prop} {τ : HP} {o_ : Nat} {a0 : Int32} {a1 : Int32} {out_ : Int32} (hx : p.tables.exec = Jvm.exec) (hb : c.code = cc) (hml : c.maxLocals = nL) (hown : s.vm.findClass own = some m.cls) (hts : ∀ w ∈ lw_all, w.before args s = true) (hC : Hcx G A s) (hW : Hw G A τ H) (hS : va_S A s.heap H locs) (hrc : hcl τ o_ = some 5) (hd : eX7_isTouch o_ a0 a1 = some out_) (hsz : ls.size = nL) (hrm : (rest.map fun v => v.category).sum ≤ 8) (hR : 1 ≤ R.frames ∧ 22 ≤ R.locals) (hcs : cells ≤ R.cells ∧ slots ≤ R.slots) (hlk : Cond.methodLink own index ⟨"WoolThreads$Event", "isTouch", "(II)Z"⟩ ∈ lw_all) (hdg : decode cc pc = .ok (.invokevirtual index, 3)) (kk : ∀ (H1 : Heap) (locs1 : List Loc), Hw G A τ H1 → va_S A s.heap H1 locs1 → W p l e R s m args below meth c H1 locs1 cells slots Q (F0 m (pc + 3) ls (.int out_ :: rest))) : W p l e R s m args below meth c H locs cells slots Q (F0 m pc ls (.int a1 :: .int a0 :: .ref o_ :: rest)) := by
  refine va_calli (va_runU (As := [.int a0, .int a1]) (rest := rest) ⟨hx, hb, hml, hown, hts⟩ (wX7_isTouch l hd) (va_cwU (C := "WoolThreads$Wear") (owner := "WoolThreads$Event") (x := ⟨"WoolThreads$Event", "isTouch", "(II)Z"⟩) 2 hts (lw_U hlk q1105 q1110 q1104 q91 q1111) rfl rfl rfl rfl (by decide +kernel) hR) (hr_preV hC hW hS hrc rfl rfl) rfl rfl hsz rfl (lv_room hrm) hdg hcs) hS (fun _ _ h => h) (fun _ h => h) (fun r u t H1 locs1 ht hvm hp hB hz hk hS1 => ?_)
  have hp : r = out_ := hp
  subst hp
  have hW1 : Hw G A τ t.heap := hB
  rw [ht] at hW1
  exact kk H1 locs1 hW1 hS1
theorem kU_X9_isTouch_6 {p : Program} {l : Launch} {e : Env} {R : Room} {s : State} {m : MethodId} {args : Array Value} {below : List Frame} {meth : Method} {c : Code} {H : Heap} {locs : List Loc} {cells slots : Nat} {Q : State → Prop} {cc : ByteArray} {pc : Nat} {ls : Array Slot} {rest : List Value} {nL : Nat} {own : String} {index : Nat} {G : HG} {A : Nat → Prop} {τ : HP} {o_ : Nat} {a0 : Int32} {a1 : Int32} {out_ : Int32} (hx : p.tables.exec = Jvm.exec) (hb : c.code = cc) (hml : c.maxLocals = nL) (hown : s.vm.findClass own = some m.cls) (hts : ∀ w ∈ lw_all, w.before args s = true) (hC : Hcx G A s) (hW : Hw G A τ H) (hS : va_S A s.heap H locs) (hrc : hcl τ o_ = some 6) (hd : eX9_isTouch τ o_ a0 a1 = some out_) (hsz : ls.size = nL) (hrm : (rest.map fun v => v.category).sum ≤ 8) (hR : 1 ≤ R.frames ∧ 22 ≤ R.locals) (hcs : cells ≤ R.cells ∧ slots ≤ R.slots) (hlk : Cond.methodLink own index ⟨"WoolThreads$Event", "isTouch", "(II)Z"⟩ ∈ lw_all) (hdg : decode cc pc = .ok (.invokevirtual index, 3)) (kk : ∀ (H1 : Heap) (locs1 : List Loc), Hw G A τ H1 → va_S A s.heap H1 locs1 → W p l e R s m args below meth c H1 locs1 cells slots Q (F0 m (pc + 3) ls (.int out_ :: rest))) : W p l e R s m args below meth c H locs cells slots Q (F0 m pc ls (.int a1 :: .int a0 :: .ref o_ :: rest)) := by
  refine va_calli (va_runU (As := [.int a0, .int a1]) (rest := rest) ⟨hx, hb, hml, hown, hts⟩ (wX9_isTouch l hd) (va_cwO (C := "WoolThreads$Touch") (owner := "WoolThreads$Event") (x := ⟨"WoolThreads$Event", "isTouch", "(II)Z"⟩) 2 hts (lw_O hlk q1105 q1104 q1107 q1108 q94 q1109) rfl rfl rfl q1111 (by decide +kernel) hR) (hr_preV hC hW hS hrc rfl rfl) rfl rfl hsz rfl (lv_room hrm) hdg hcs) hS (fun _ _ h => h) (fun _ h => h) (fun r u t H1 locs1 ht hvm hp hB hz hk hS1 => ?_)
  have hp : r = out_ := hp
  subst hp
  have hW1 : Hw G A τ t.heap := hB
  rw [ht] at hW1
  exact kk H1 locs1 hW1 hS1
theorem kU_X7_isTouch_7 {p : Program} {l : Launch} {e : Env} {R : Room} {s : State} {m : MethodId} {args : Array Value} {below : List Frame} {meth : Method} {c : Code} {H : Heap} {locs : List Loc} {cells slots : Nat} {Q : State → Prop} {cc : ByteArray} {pc : Nat} {ls : Array Slot} {rest : List Value} {nL : Nat} {own : String} {index : Nat} {G : HG} {A : Nat → Prop} {τ : HP} {o_ : Nat} {a0 : Int32} {a1 : Int32} {out_ : Int32} (hx : p.tables.exec = Jvm.exec) (hb : c.code = cc) (hml : c.maxLocals = nL) (hown : s.vm.findClass own = some m.cls) (hts : ∀ w ∈ lw_all, w.before args s = true) (hC : Hcx G A s) (hW : Hw G A τ H) (hS : va_S A s.heap H locs) (hrc : hcl τ o_ = some 7) (hd : eX7_isTouch o_ a0 a1 = some out_) (hsz : ls.size = nL) (hrm : (rest.map fun v => v.category).sum ≤ 8) (hR : 1 ≤ R.frames ∧ 22 ≤ R.locals) (hcs : cells ≤ R.cells ∧ slots ≤ R.slots) (hlk : Cond.methodLink own index ⟨"WoolThreads$Event", "isTouch", "(II)Z"⟩ ∈ lw_all) (hdg : decode cc pc = .ok (.invokevirtual index, 3)) (kk : ∀ (H1 : Heap) (locs1 : List Loc), Hw G A τ H1 → va_S A s.heap H1 locs1 → W p l e R s m args below meth c H1 locs1 cells slots Q (F0 m (pc + 3) ls (.int out_ :: rest))) : W p l e R s m args below meth c H locs cells slots Q (F0 m pc ls (.int a1 :: .int a0 :: .ref o_ :: rest)) := by
  refine va_calli (va_runU (As := [.int a0, .int a1]) (rest := rest) ⟨hx, hb, hml, hown, hts⟩ (wX7_isTouch l hd) (va_cwU (C := "WoolThreads$Stay") (owner := "WoolThreads$Event") (x := ⟨"WoolThreads$Event", "isTouch", "(II)Z"⟩) 2 hts (lw_U hlk q1105 q1106 q1104 q91 q1111) rfl rfl rfl rfl (by decide +kernel) hR) (hr_preV hC hW hS hrc rfl rfl) rfl rfl hsz rfl (lv_room hrm) hdg hcs) hS (fun _ _ h => h) (fun _ h => h) (fun r u t H1 locs1 ht hvm hp hB hz hk hS1 => ?_)
  have hp : r = out_ := hp
  subst hp
  have hW1 : Hw G A τ t.heap := hB
  rw [ht] at hW1
  exact kk H1 locs1 hW1 hS1
noncomputable def eEv_isTouch (τ : HP) (o_ : Nat) (a0 : Int32) (a1 : Int32) : Option Int32 := wt_bd (hcl τ o_) fun c => if c = 5 then eX7_isTouch o_ a0 a1 else if c = 6 then eX9_isTouch τ o_ a0 a1 else if c = 7 then eX7_isTouch o_ a0 a1 else none
theorem kEv_isTouch {p : Program} {l : Launch} {e : Env} {R : Room} {s : State} {m : MethodId} {args : Array Value} {below : List Frame} {meth : Method} {c : Code} {H : Heap} {locs : List Loc} {cells slots : Nat} {Q : State → Prop} {cc : ByteArray} {pc : Nat} {ls : Array Slot} {rest : List Value} {nL : Nat} {own : String} {index : Nat} {G : HG} {A : Nat → Prop} {τ : HP} {o_ : Nat} {a0 : Int32} {a1 : Int32} {out_ : Int32} (hx : p.tables.exec = Jvm.exec) (hb : c.code = cc) (hml : c.maxLocals = nL) (hown : s.vm.findClass own = some m.cls) (hts : ∀ w ∈ lw_all, w.before args s = true) (hC : Hcx G A s) (hW : Hw G A τ H) (hS : va_S A s.heap H locs) (hd : eEv_isTouch τ o_ a0 a1 = some out_) (hsz : ls.size = nL) (hrm : (rest.map fun v => v.category).sum ≤ 8) (hR : 1 ≤ R.frames ∧ 22 ≤ R.locals) (hcs : cells ≤ R.cells ∧ slots ≤ R.slots) (hlk : Cond.methodLink own index ⟨"WoolThreads$Event", "isTouch", "(II)Z"⟩ ∈ lw_all) (hdg : decode cc pc = .ok (.invokevirtual index, 3)) (kk : ∀ (H1 : Heap) (locs1 : List Loc), Hw G A τ H1 → va_S A s.heap H1 locs1 → W p l e R s m args below meth c H1 locs1 cells slots Q (F0 m (pc + 3) ls (.int out_ :: rest))) : W p l e R s m args below meth c H locs cells slots Q (F0 m pc ls (.int a1 :: .int a0 :: .ref o_ :: rest)) := by
  unfold eEv_isTouch at hd
  obtain ⟨c0, hc0, hd⟩ := wt_bd_o hd
  by_cases e5 : c0 = 5
  · have hd := wt_it hd e5
    subst e5
    exact kU_X7_isTouch_5 hx hb hml hown hts hC hW hS hc0 hd hsz hrm ⟨Nat.le_trans (by decide) hR.1, Nat.le_trans (by decide) hR.2⟩ hcs hlk hdg kk
  have hd := wt_if hd e5
  by_cases e6 : c0 = 6
  · have hd := wt_it hd e6
    subst e6
    exact kU_X9_isTouch_6 hx hb hml hown hts hC hW hS hc0 hd hsz hrm ⟨Nat.le_trans (by decide) hR.1, Nat.le_trans (by decide) hR.2⟩ hcs hlk hdg kk
  have hd := wt_if hd e6
  by_cases e7 : c0 = 7
  · have hd := wt_it hd e7
    subst e7
    exact kU_X7_isTouch_7 hx hb hml hown hts hC hW hS hc0 hd hsz hrm ⟨Nat.le_trans (by decide) hR.1, Nat.le_trans (by decide) hR.2⟩ hcs hlk hdg kk
  have hd := wt_if hd e7
  cases hd
