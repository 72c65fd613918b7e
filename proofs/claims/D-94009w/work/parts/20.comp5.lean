/-! Wrong, the reader (by gen/comp.py) -/
set_option maxRecDepth 100000
theorem hf_4_0 : hfB [4] 0 "java/lang/Throwable" "cause" "Ljava/lang/Throwable;" false = true := by decide +kernel
theorem hf_4_1 : hfB [4] 1 "java/lang/Throwable" "stackTrace" "[Ljava/lang/StackTraceElement;" false = true := by decide +kernel
theorem hf_4_2 : hfB [4] 2 "java/lang/Throwable" "suppressedExceptions" "Ljava/util/List;" false = true := by decide +kernel
theorem hf_4_3 : hfB [4] 3 "java/lang/Throwable" "detailMessage" "Ljava/lang/String;" false = true := by decide +kernel
theorem hf_4_6 : hfB [4] 6 "WoolThreads$Wrong" "kind" "I" true = true := by decide +kernel
theorem hf_4_7 : hfB [4] 7 "WoolThreads$Wrong" "place" "I" true = true := by decide +kernel
theorem hf_3_0 : hfB [3] 0 "WoolThreads$Reader" "text" "[B" true = true := by decide +kernel
theorem hf_3_1 : hfB [3] 1 "WoolThreads$Reader" "size" "I" true = true := by decide +kernel
theorem hf_3_2 : hfB [3] 2 "WoolThreads$Reader" "next" "I" false = true := by decide +kernel
theorem hf_3_3 : hfB [3] 3 "WoolThreads$Reader" "from" "I" false = true := by decide +kernel
theorem hf_1_7 : hfB [1] 7 "WoolThreads$Law" "clauses" "I" false = true := by decide +kernel
noncomputable def zJ3_init_3 (us_ : Nat → Option Nat) (τ : HP) (o_ : Nat) (a2 : Int32) (a3 : Int32) : Option (HP) :=
  wt_bd (hp τ o_ [4] 0 (.ref o_)) fun τ1 => wt_bd (hp τ1 o_ [4] 1 (va_rf ((us_ 0)))) fun τ3 => wt_bd (hp τ3 o_ [4] 2 (va_rf ((us_ 1)))) fun τ5 => if a3 = 0 then (wt_bd (hp τ5 o_ [4] 1 (.null)) fun τ8 => wt_bd (hp τ8 o_ [4] 3 (.null)) fun τ10 => wt_bd (hp τ10 o_ [4] 0 (.null)) fun τ12 => if a2 = 0 then (wt_bd (hp τ12 o_ [4] 2 (.null)) fun τ15 => some (τ15)) else (some (τ12))) else (none)
noncomputable def eJ3_init_3 (τ : HP) (o_ : Nat) (a2 : Int32) (a3 : Int32) : Option (HP) := wt_ck (∀ us_ : Nat → Option Nat, zJ3_init_3 us_ τ o_ a2 a3 = zJ3_init_3 (fun _ => none) τ o_ a2 a3) <| zJ3_init_3 (fun _ => none) τ o_ a2 a3
set_option maxHeartbeats 4000000 in
theorem wJ3_init_3 (l : Launch) {G : HG} {A : Nat → Prop} {τ : HP} {o_ : Nat} {a2 : Int32} {a3 : Int32} {out_ : HP} (hd : eJ3_init_3 τ o_ a2 a3 = some out_) : Met l yJ3_init_3 (ws_ yJ3_init_3 cJ3_init_3 5 none) ({ frames := 1, cells := 0, slots := 0, locals := 32 }) (hPc G A τ [.ref o_, .null, .null, .int a2, .int a3]) (hQv G out_ A) 0 0 A := by
  refine Met.ofW (cc := cJ3_init_3) (maxL := 5) (ret := none) (by decide) rfl ?_
  intro p_ e_ s_ m_ args_ below_ meth_ c_ s₁_ B hml hv
  obtain ⟨rfl, hW, hC⟩ := hv
  have hx := B.exec
  have hb := B.bytes
  have hr := B.returns
  have hts := atoms_spec (ws := (ws_ yJ3_init_3 cJ3_init_3 5 none)) B.pre
  have hts : ∀ w ∈ lw_all, w.before _ s_ = true := fun w h => hts w (List.mem_cons_of_mem _ h)
  have hown : s_.vm.findClass RJ3 = some m_.cls := findClass_of_methodNamed B.named
  have hlocks := B.notSynchronized
  have hK := hC.1
  have hT := hC.2.1
  have hL := hC.2.2.1
  have hZ := hC.2.2.2.2.1
  have hA := hC.2.2.2.2.2
  have hin2 : meth_.name = "<init>" := (name_of_methodNamed B.named B.method).1
  have hS : va_S A s_.heap s_.heap [] := va_S.rf
  have hl := lv_entry ([.ref o_, .null, .null, .int a2, .int a3]) (n := 5) (Nat.le_of_ble_eq_true rfl)
  rw [lg_entry_eq]
  generalize (lg_sl ([.ref o_, .null, .null, .int a2, .int a3]) ++ List.replicate (5 - (lg_sl ([.ref o_, .null, .null, .int a2, .int a3])).length) Slot.unset).toArray = ls at hl ⊢
  have hl : lv_has ls 5 [(0, .ref o_), (1, .null), (2, .null), (3, .int a2), (4, .int a3)] := hl
  unfold eJ3_init_3 at hd
  obtain ⟨hus, hd⟩ := wt_ck_o hd
  obtain ⟨us_, hus0, hus1⟩ := wt_us hZ
  have hd := (hus us_).trans hd
  clear hus
  unfold zJ3_init_3 at hd
  refine lv_aload_n (pc := 0) hx hb dJ3_init_3_0 rfl (lv_at hl 0 rfl) ?_
  refine W.objInit (g := F0 m_ 1 ls _) hx hb hown (hts _ q210) (hts _ q110) (hts _ q111) rfl (by rw [hml]; exact hl.1) rfl dJ3_init_3_1 (Nat.le_of_ble_eq_true rfl) (Nat.le_of_ble_eq_true rfl) ?_
  refine W.eq (g2 := F0 m_ 4 ls []) rfl ?_
  refine lv_aload_n (pc := 4) hx hb dJ3_init_3_4 rfl (lv_at hl 0 rfl) ?_
  refine lv_aload_n (pc := 5) hx hb dJ3_init_3_5 rfl (lv_at hl 0 rfl) ?_
  obtain ⟨τ1, h2, hd⟩ := wt_bd_o hd
  refine hr_put (pc := 6) (ty := (.object "java/lang/Throwable")) hx hb hts hown hK hW hS h2 hf_4_0 (by decide +kernel) rfl rfl (fun _ h => h) q463 dJ3_init_3_6 (fun H locs hW hS => ?_)
  refine lv_aload_n (pc := 9) hx hb dJ3_init_3_9 rfl (lv_at hl 0 rfl) ?_
  refine va_gets (pc := 10) hx hb hus0 hS hown (hts _ q211) (fun _ h => h) dJ3_init_3_10 ?_
  obtain ⟨τ3, h4, hd⟩ := wt_bd_o hd
  refine hr_put (pc := 13) (ty := (.array (.object "java/lang/StackTraceElement"))) hx hb hts hown hK hW hS h4 hf_4_1 (by decide +kernel) (wt_nrf _ (by decide)) (wt_frf _ (by decide)) (fun _ h => h) q464 dJ3_init_3_13 (fun H locs hW hS => ?_)
  refine lv_aload_n (pc := 16) hx hb dJ3_init_3_16 rfl (lv_at hl 0 rfl) ?_
  refine va_gets (pc := 17) hx hb hus1 hS hown (hts _ q213) (fun _ h => h) dJ3_init_3_17 ?_
  obtain ⟨τ5, h6, hd⟩ := wt_bd_o hd
  refine hr_put (pc := 20) (ty := (.object "java/util/List")) hx hb hts hown hK hW hS h6 hf_4_2 (by decide +kernel) (wt_nrf _ (by decide)) (wt_frf _ (by decide)) (fun _ h => h) q465 dJ3_init_3_20 (fun H locs hW hS => ?_)
  refine lv_iload (pc := 23) hx hb dJ3_init_3_23 (lv_at hl 4 rfl) ?_
  refine lv_if_eq (pc := 25) (tgt := 36) hx hb dJ3_init_3_25 (by decide) (fun c7 => ?_) (fun c7 => ?_)
  · have hd := wt_it hd c7
    refine lv_aload_n (pc := 36) hx hb dJ3_init_3_36 rfl (lv_at hl 0 rfl) ?_
    refine lv_null (pc := 37) hx hb dJ3_init_3_37 ?_
    obtain ⟨τ8, h9, hd⟩ := wt_bd_o hd
    refine hr_put (pc := 38) (ty := (.array (.object "java/lang/StackTraceElement"))) hx hb hts hown hK hW hS h9 hf_4_1 (by decide +kernel) rfl rfl (fun _ h => h) q464 dJ3_init_3_38 (fun H locs hW hS => ?_)
    refine lv_aload_n (pc := 41) hx hb dJ3_init_3_41 rfl (lv_at hl 0 rfl) ?_
    refine lv_aload_nN (pc := 42) hx hb dJ3_init_3_42 rfl (lv_at hl 1 rfl) ?_
    obtain ⟨τ10, h11, hd⟩ := wt_bd_o hd
    refine hr_put (pc := 43) (ty := (.object "java/lang/String")) hx hb hts hown hK hW hS h11 hf_4_3 (by decide +kernel) rfl rfl (fun _ h => h) q462 dJ3_init_3_43 (fun H locs hW hS => ?_)
    refine lv_aload_n (pc := 46) hx hb dJ3_init_3_46 rfl (lv_at hl 0 rfl) ?_
    refine lv_aload_nN (pc := 47) hx hb dJ3_init_3_47 rfl (lv_at hl 2 rfl) ?_
    obtain ⟨τ12, h13, hd⟩ := wt_bd_o hd
    refine hr_put (pc := 48) (ty := (.object "java/lang/Throwable")) hx hb hts hown hK hW hS h13 hf_4_0 (by decide +kernel) rfl rfl (fun _ h => h) q463 dJ3_init_3_48 (fun H locs hW hS => ?_)
    refine lv_iload_n (pc := 51) hx hb dJ3_init_3_51 rfl (lv_at hl 3 rfl) ?_
    refine lv_if_ne (pc := 52) (tgt := 60) hx hb dJ3_init_3_52 (by decide) (fun c14 => ?_) (fun c14 => ?_)
    · have hd := wt_if hd c14
      exact hr_vret hx hb hr hlocks (Option.some.inj hd) hW hS dJ3_init_3_60 (Nat.le_of_ble_eq_true rfl) (Nat.le_of_ble_eq_true rfl)
    · have hd := wt_it hd c14
      refine lv_aload_n (pc := 55) hx hb dJ3_init_3_55 rfl (lv_at hl 0 rfl) ?_
      refine lv_null (pc := 56) hx hb dJ3_init_3_56 ?_
      obtain ⟨τ15, h16, hd⟩ := wt_bd_o hd
      refine hr_put (pc := 57) (ty := (.object "java/util/List")) hx hb hts hown hK hW hS h16 hf_4_2 (by decide +kernel) rfl rfl (fun _ h => h) q465 dJ3_init_3_57 (fun H locs hW hS => ?_)
      exact hr_vret hx hb hr hlocks (Option.some.inj hd) hW hS dJ3_init_3_60 (Nat.le_of_ble_eq_true rfl) (Nat.le_of_ble_eq_true rfl)
  · have hd := wt_if hd c7
    exact absurd hd (by intro h; cases h)
theorem kJ3_init_3 {p : Program} {l : Launch} {e : Env} {R : Room} {s : State} {m : MethodId} {args : Array Value} {below : List Frame} {meth : Method} {c : Code} {H : Heap} {locs : List Loc} {cells slots : Nat} {Q : State → Prop} {cc : ByteArray} {pc : Nat} {ls : Array Slot} {rest : List Value} {nL : Nat} {own : String} {index : Nat} {G : HG} {A : Nat → Prop} {τ : HP} {o_ : Nat} {a2 : Int32} {a3 : Int32} {out_ : HP} (hx : p.tables.exec = Jvm.exec) (hb : c.code = cc) (hml : c.maxLocals = nL) (hown : s.vm.findClass own = some m.cls) (hts : ∀ w ∈ lw_all, w.before args s = true) (hC : Hcx G A s) (hW : Hw G A τ H) (hS : va_S A s.heap H locs) (hd : eJ3_init_3 τ o_ a2 a3 = some out_) (hsz : ls.size = nL) (hrm : (rest.map fun v => v.category).sum ≤ 8) (hR : 2 ≤ R.frames ∧ 56 ≤ R.locals) (hcs : cells ≤ R.cells ∧ slots ≤ R.slots) (hlk : Cond.methodLink own index yJ3_init_3 ∈ lw_all) (hdg : decode cc pc = .ok (.invokespecial index, 3)) (kk : ∀ (H1 : Heap) (locs1 : List Loc), Hw G A out_ H1 → va_S A s.heap H1 locs1 → W p l e R s m args below meth c H1 locs1 cells slots Q (F0 m (pc + 3) ls (rest))) : W p l e R s m args below meth c H locs cells slots Q (F0 m pc ls (.int a3 :: .int a2 :: .null :: .null :: .ref o_ :: rest)) := by
  refine va_callv (va_runI (As := [.null, .null, .int a2, .int a3]) (rest := rest) ⟨hx, hb, hml, hown, hts⟩ (wJ3_init_3 l hd) (cwI 4 hts (lw_meth q848) rfl rfl rfl (hts _ q72) (hts _ hlk) (hts _ q847) rfl (by decide +kernel) hR) (hr_preS hC hW hS) rfl rfl hsz rfl (lv_room hrm) hdg hcs) hS (fun _ _ h => h) (fun _ h => h) (fun u t H1 locs1 ht hvm hp hB hz hk hS1 => ?_)
  have hW1 : Hw G A out_ t.heap := hB
  rw [ht] at hW1
  exact kk H1 locs1 hW1 hS1
noncomputable def eJ4_init_3 (τ : HP) (o_ : Nat) (a2 : Int32) (a3 : Int32) : Option (HP) :=
  wt_bd (eJ3_init_3 τ o_ a2 a3) fun w1 => some w1
set_option maxHeartbeats 4000000 in
theorem wJ4_init_3 (l : Launch) {G : HG} {A : Nat → Prop} {τ : HP} {o_ : Nat} {a2 : Int32} {a3 : Int32} {out_ : HP} (hd : eJ4_init_3 τ o_ a2 a3 = some out_) : Met l yJ4_init_3 (ws_ yJ4_init_3 cJ4_init_3 5 none) ({ frames := 2, cells := 0, slots := 0, locals := 56 }) (hPc G A τ [.ref o_, .null, .null, .int a2, .int a3]) (hQv G out_ A) 0 0 A := by
  refine Met.ofW (cc := cJ4_init_3) (maxL := 5) (ret := none) (by decide) rfl ?_
  intro p_ e_ s_ m_ args_ below_ meth_ c_ s₁_ B hml hv
  obtain ⟨rfl, hW, hC⟩ := hv
  have hx := B.exec
  have hb := B.bytes
  have hr := B.returns
  have hts := atoms_spec (ws := (ws_ yJ4_init_3 cJ4_init_3 5 none)) B.pre
  have hts : ∀ w ∈ lw_all, w.before _ s_ = true := fun w h => hts w (List.mem_cons_of_mem _ h)
  have hown : s_.vm.findClass RJ4 = some m_.cls := findClass_of_methodNamed B.named
  have hlocks := B.notSynchronized
  have hK := hC.1
  have hT := hC.2.1
  have hL := hC.2.2.1
  have hZ := hC.2.2.2.2.1
  have hA := hC.2.2.2.2.2
  have hin2 : meth_.name = "<init>" := (name_of_methodNamed B.named B.method).1
  have hS : va_S A s_.heap s_.heap [] := va_S.rf
  have hl := lv_entry ([.ref o_, .null, .null, .int a2, .int a3]) (n := 5) (Nat.le_of_ble_eq_true rfl)
  rw [lg_entry_eq]
  generalize (lg_sl ([.ref o_, .null, .null, .int a2, .int a3]) ++ List.replicate (5 - (lg_sl ([.ref o_, .null, .null, .int a2, .int a3])).length) Slot.unset).toArray = ls at hl ⊢
  have hl : lv_has ls 5 [(0, .ref o_), (1, .null), (2, .null), (3, .int a2), (4, .int a3)] := hl
  unfold eJ4_init_3 at hd
  refine lv_aload_n (pc := 0) hx hb dJ4_init_3_0 rfl (lv_at hl 0 rfl) ?_
  refine lv_aload_nN (pc := 1) hx hb dJ4_init_3_1 rfl (lv_at hl 1 rfl) ?_
  refine lv_aload_nN (pc := 2) hx hb dJ4_init_3_2 rfl (lv_at hl 2 rfl) ?_
  refine lv_iload_n (pc := 3) hx hb dJ4_init_3_3 rfl (lv_at hl 3 rfl) ?_
  refine lv_iload (pc := 4) hx hb dJ4_init_3_4 (lv_at hl 4 rfl) ?_
  obtain ⟨w1, hc2, hd⟩ := wt_bd_o hd
  refine kJ3_init_3 (pc := 6) hx hb hml hown hts hC hW hS hc2 hl.1 (Nat.le_of_ble_eq_true rfl) ⟨Nat.le_of_ble_eq_true rfl, Nat.le_of_ble_eq_true rfl⟩ ⟨Nat.le_of_ble_eq_true rfl, Nat.le_of_ble_eq_true rfl⟩ q846 dJ4_init_3_6 (fun H locs hW hS => ?_)
  exact hr_vret hx hb hr hlocks (Option.some.inj hd) hW hS dJ4_init_3_9 (Nat.le_of_ble_eq_true rfl) (Nat.le_of_ble_eq_true rfl)
theorem kJ4_init_3 {p : Program} {l : Launch} {e : Env} {R : Room} {s : State} {m : MethodId} {args : Array Value} {below : List Frame} {meth : Method} {c : Code} {H : Heap} {locs : List Loc} {cells slots : Nat} {Q : State → Prop} {cc : ByteArray} {pc : Nat} {ls : Array Slot} {rest : List Value} {nL : Nat} {own : String} {index : Nat} {G : HG} {A : Nat → Prop} {τ : HP} {o_ : Nat} {a2 : Int32} {a3 : Int32} {out_ : HP} (hx : p.tables.exec = Jvm.exec) (hb : c.code = cc) (hml : c.maxLocals = nL) (hown : s.vm.findClass own = some m.cls) (hts : ∀ w ∈ lw_all, w.before args s = true) (hC : Hcx G A s) (hW : Hw G A τ H) (hS : va_S A s.heap H locs) (hd : eJ4_init_3 τ o_ a2 a3 = some out_) (hsz : ls.size = nL) (hrm : (rest.map fun v => v.category).sum ≤ 8) (hR : 3 ≤ R.frames ∧ 80 ≤ R.locals) (hcs : cells ≤ R.cells ∧ slots ≤ R.slots) (hlk : Cond.methodLink own index yJ4_init_3 ∈ lw_all) (hdg : decode cc pc = .ok (.invokespecial index, 3)) (kk : ∀ (H1 : Heap) (locs1 : List Loc), Hw G A out_ H1 → va_S A s.heap H1 locs1 → W p l e R s m args below meth c H1 locs1 cells slots Q (F0 m (pc + 3) ls (rest))) : W p l e R s m args below meth c H locs cells slots Q (F0 m pc ls (.int a3 :: .int a2 :: .null :: .null :: .ref o_ :: rest)) := by
  refine va_callv (va_runI (As := [.null, .null, .int a2, .int a3]) (rest := rest) ⟨hx, hb, hml, hown, hts⟩ (wJ4_init_3 l hd) (cwI 4 hts (lw_meth q845) rfl rfl rfl (hts _ q73) (hts _ hlk) (hts _ q844) rfl (by decide +kernel) hR) (hr_preS hC hW hS) rfl rfl hsz rfl (lv_room hrm) hdg hcs) hS (fun _ _ h => h) (fun _ h => h) (fun u t H1 locs1 ht hvm hp hB hz hk hS1 => ?_)
  have hW1 : Hw G A out_ t.heap := hB
  rw [ht] at hW1
  exact kk H1 locs1 hW1 hS1
noncomputable def eX6_init (τ : HP) (o_ : Nat) (a0 : Int32) (a1 : Int32) : Option (HP) :=
  wt_bd (eJ4_init_3 τ o_ (0 : Int32) (0 : Int32)) fun w1 => wt_bd (hp w1 o_ [4] 6 (.int a0)) fun τ3 => wt_bd (hp τ3 o_ [4] 7 (.int a1)) fun τ5 => some (τ5)
set_option maxHeartbeats 4000000 in
theorem wX6_init (l : Launch) {G : HG} {A : Nat → Prop} {τ : HP} {o_ : Nat} {a0 : Int32} {a1 : Int32} {out_ : HP} (hd : eX6_init τ o_ a0 a1 = some out_) : Met l yX6_init (ws_ yX6_init cX6_init 3 none) ({ frames := 3, cells := 0, slots := 0, locals := 80 }) (hPc G A τ [.ref o_, .int a0, .int a1]) (hQv G out_ A) 0 0 A := by
  refine Met.ofW (cc := cX6_init) (maxL := 3) (ret := none) (by decide) rfl ?_
  intro p_ e_ s_ m_ args_ below_ meth_ c_ s₁_ B hml hv
  obtain ⟨rfl, hW, hC⟩ := hv
  have hx := B.exec
  have hb := B.bytes
  have hr := B.returns
  have hts := atoms_spec (ws := (ws_ yX6_init cX6_init 3 none)) B.pre
  have hts : ∀ w ∈ lw_all, w.before _ s_ = true := fun w h => hts w (List.mem_cons_of_mem _ h)
  have hown : s_.vm.findClass RX6 = some m_.cls := findClass_of_methodNamed B.named
  have hlocks := B.notSynchronized
  have hK := hC.1
  have hT := hC.2.1
  have hL := hC.2.2.1
  have hZ := hC.2.2.2.2.1
  have hA := hC.2.2.2.2.2
  have hin2 : meth_.name = "<init>" := (name_of_methodNamed B.named B.method).1
  have hS : va_S A s_.heap s_.heap [] := va_S.rf
  have hl := lv_entry ([.ref o_, .int a0, .int a1]) (n := 3) (Nat.le_of_ble_eq_true rfl)
  rw [lg_entry_eq]
  generalize (lg_sl ([.ref o_, .int a0, .int a1]) ++ List.replicate (3 - (lg_sl ([.ref o_, .int a0, .int a1])).length) Slot.unset).toArray = ls at hl ⊢
  have hl : lv_has ls 3 [(0, .ref o_), (1, .int a0), (2, .int a1)] := hl
  unfold eX6_init at hd
  refine lv_aload_n (pc := 0) hx hb dX6_init_0 rfl (lv_at hl 0 rfl) ?_
  refine lv_null (pc := 1) hx hb dX6_init_1 ?_
  refine lv_null (pc := 2) hx hb dX6_init_2 ?_
  refine lv_iconst (pc := 3) (v := 0) hx hb dX6_init_3 (by decide) ?_
  refine lv_iconst (pc := 4) (v := 0) hx hb dX6_init_4 (by decide) ?_
  obtain ⟨w1, hc2, hd⟩ := wt_bd_o hd
  refine kJ4_init_3 (pc := 5) hx hb hml hown hts hC hW hS hc2 hl.1 (Nat.le_of_ble_eq_true rfl) ⟨Nat.le_of_ble_eq_true rfl, Nat.le_of_ble_eq_true rfl⟩ ⟨Nat.le_of_ble_eq_true rfl, Nat.le_of_ble_eq_true rfl⟩ q843 dX6_init_5 (fun H locs hW hS => ?_)
  refine lv_aload_n (pc := 8) hx hb dX6_init_8 rfl (lv_at hl 0 rfl) ?_
  refine lv_iload_n (pc := 9) hx hb dX6_init_9 rfl (lv_at hl 1 rfl) ?_
  obtain ⟨τ3, h4, hd⟩ := wt_bd_o hd
  refine hr_putF (pc := 10) (ty := .int) hx hb hts hown hK hin2 hW hS h4 hf_4_6 (by decide +kernel) rfl rfl q849 dX6_init_10 (fun H locs hW hS => ?_)
  refine lv_aload_n (pc := 13) hx hb dX6_init_13 rfl (lv_at hl 0 rfl) ?_
  refine lv_iload_n (pc := 14) hx hb dX6_init_14 rfl (lv_at hl 2 rfl) ?_
  obtain ⟨τ5, h6, hd⟩ := wt_bd_o hd
  refine hr_putF (pc := 15) (ty := .int) hx hb hts hown hK hin2 hW hS h6 hf_4_7 (by decide +kernel) rfl rfl q851 dX6_init_15 (fun H locs hW hS => ?_)
  exact hr_vret hx hb hr hlocks (Option.some.inj hd) hW hS dX6_init_18 (Nat.le_of_ble_eq_true rfl) (Nat.le_of_ble_eq_true rfl)
theorem kX6_init {p : Program} {l : Launch} {e : Env} {R : Room} {s : State} {m : MethodId} {args : Array Value} {below : List Frame} {meth : Method} {c : Code} {H : Heap} {locs : List Loc} {cells slots : Nat} {Q : State → Prop} {cc : ByteArray} {pc : Nat} {ls : Array Slot} {rest : List Value} {nL : Nat} {own : String} {index : Nat} {G : HG} {A : Nat → Prop} {τ : HP} {o_ : Nat} {a0 : Int32} {a1 : Int32} {out_ : HP} (hx : p.tables.exec = Jvm.exec) (hb : c.code = cc) (hml : c.maxLocals = nL) (hown : s.vm.findClass own = some m.cls) (hts : ∀ w ∈ lw_all, w.before args s = true) (hC : Hcx G A s) (hW : Hw G A τ H) (hS : va_S A s.heap H locs) (hd : eX6_init τ o_ a0 a1 = some out_) (hsz : ls.size = nL) (hrm : (rest.map fun v => v.category).sum ≤ 8) (hR : 4 ≤ R.frames ∧ 102 ≤ R.locals) (hcs : cells ≤ R.cells ∧ slots ≤ R.slots) (hlk : Cond.methodLink own index yX6_init ∈ lw_all) (hdg : decode cc pc = .ok (.invokespecial index, 3)) (kk : ∀ (H1 : Heap) (locs1 : List Loc), Hw G A out_ H1 → va_S A s.heap H1 locs1 → W p l e R s m args below meth c H1 locs1 cells slots Q (F0 m (pc + 3) ls (rest))) : W p l e R s m args below meth c H locs cells slots Q (F0 m pc ls (.int a1 :: .int a0 :: .ref o_ :: rest)) := by
  refine va_callv (va_runI (As := [.int a0, .int a1]) (rest := rest) ⟨hx, hb, hml, hown, hts⟩ (wX6_init l hd) (cwI 2 hts (lw_meth q842) rfl rfl rfl (hts _ q90) (hts _ hlk) (hts _ q841) rfl (by decide +kernel) hR) (hr_preS hC hW hS) rfl rfl hsz rfl (lv_room hrm) hdg hcs) hS (fun _ _ h => h) (fun _ h => h) (fun u t H1 locs1 ht hvm hp hB hz hk hS1 => ?_)
  have hW1 : Hw G A out_ t.heap := hB
  rw [ht] at hW1
  exact kk H1 locs1 hW1 hS1
noncomputable def eX5_init (τ : HP) (o_ : Nat) (a0 : Nat) (a1 : Int32) : Option (HP) :=
  wt_bd (hp τ o_ [3] 0 (.ref a0)) fun τ1 => wt_bd (hp τ1 o_ [3] 1 (.int a1)) fun τ3 => some (τ3)
set_option maxHeartbeats 4000000 in
theorem wX5_init (l : Launch) {G : HG} {A : Nat → Prop} {τ : HP} {o_ : Nat} {a0 : Nat} {a1 : Int32} {out_ : HP} (hd : eX5_init τ o_ a0 a1 = some out_) : Met l yX5_init (ws_ yX5_init cX5_init 3 none) ({ frames := 1, cells := 0, slots := 0, locals := 32 }) (hPc G A τ [.ref o_, .ref a0, .int a1]) (hQv G out_ A) 0 0 A := by
  refine Met.ofW (cc := cX5_init) (maxL := 3) (ret := none) (by decide) rfl ?_
  intro p_ e_ s_ m_ args_ below_ meth_ c_ s₁_ B hml hv
  obtain ⟨rfl, hW, hC⟩ := hv
  have hx := B.exec
  have hb := B.bytes
  have hr := B.returns
  have hts := atoms_spec (ws := (ws_ yX5_init cX5_init 3 none)) B.pre
  have hts : ∀ w ∈ lw_all, w.before _ s_ = true := fun w h => hts w (List.mem_cons_of_mem _ h)
  have hown : s_.vm.findClass RX5 = some m_.cls := findClass_of_methodNamed B.named
  have hlocks := B.notSynchronized
  have hK := hC.1
  have hT := hC.2.1
  have hL := hC.2.2.1
  have hZ := hC.2.2.2.2.1
  have hA := hC.2.2.2.2.2
  have hin2 : meth_.name = "<init>" := (name_of_methodNamed B.named B.method).1
  have hS : va_S A s_.heap s_.heap [] := va_S.rf
  have hl := lv_entry ([.ref o_, .ref a0, .int a1]) (n := 3) (Nat.le_of_ble_eq_true rfl)
  rw [lg_entry_eq]
  generalize (lg_sl ([.ref o_, .ref a0, .int a1]) ++ List.replicate (3 - (lg_sl ([.ref o_, .ref a0, .int a1])).length) Slot.unset).toArray = ls at hl ⊢
  have hl : lv_has ls 3 [(0, .ref o_), (1, .ref a0), (2, .int a1)] := hl
  unfold eX5_init at hd
  refine lv_aload_n (pc := 0) hx hb dX5_init_0 rfl (lv_at hl 0 rfl) ?_
  refine W.objInit (g := F0 m_ 1 ls _) hx hb hown (hts _ q695) (hts _ q110) (hts _ q111) rfl (by rw [hml]; exact hl.1) rfl dX5_init_1 (Nat.le_of_ble_eq_true rfl) (Nat.le_of_ble_eq_true rfl) ?_
  refine W.eq (g2 := F0 m_ 4 ls []) rfl ?_
  refine lv_aload_n (pc := 4) hx hb dX5_init_4 rfl (lv_at hl 0 rfl) ?_
  refine lv_aload_n (pc := 5) hx hb dX5_init_5 rfl (lv_at hl 1 rfl) ?_
  obtain ⟨τ1, h2, hd⟩ := wt_bd_o hd
  refine hr_putF (pc := 6) (ty := (.array .byte)) hx hb hts hown hK hin2 hW hS h2 hf_3_0 (by decide +kernel) rfl rfl q696 dX5_init_6 (fun H locs hW hS => ?_)
  refine lv_aload_n (pc := 9) hx hb dX5_init_9 rfl (lv_at hl 0 rfl) ?_
  refine lv_iload_n (pc := 10) hx hb dX5_init_10 rfl (lv_at hl 2 rfl) ?_
  obtain ⟨τ3, h4, hd⟩ := wt_bd_o hd
  refine hr_putF (pc := 11) (ty := .int) hx hb hts hown hK hin2 hW hS h4 hf_3_1 (by decide +kernel) rfl rfl q697 dX5_init_11 (fun H locs hW hS => ?_)
  exact hr_vret hx hb hr hlocks (Option.some.inj hd) hW hS dX5_init_14 (Nat.le_of_ble_eq_true rfl) (Nat.le_of_ble_eq_true rfl)
theorem kX5_init {p : Program} {l : Launch} {e : Env} {R : Room} {s : State} {m : MethodId} {args : Array Value} {below : List Frame} {meth : Method} {c : Code} {H : Heap} {locs : List Loc} {cells slots : Nat} {Q : State → Prop} {cc : ByteArray} {pc : Nat} {ls : Array Slot} {rest : List Value} {nL : Nat} {own : String} {index : Nat} {G : HG} {A : Nat → Prop} {τ : HP} {o_ : Nat} {a0 : Nat} {a1 : Int32} {out_ : HP} (hx : p.tables.exec = Jvm.exec) (hb : c.code = cc) (hml : c.maxLocals = nL) (hown : s.vm.findClass own = some m.cls) (hts : ∀ w ∈ lw_all, w.before args s = true) (hC : Hcx G A s) (hW : Hw G A τ H) (hS : va_S A s.heap H locs) (hd : eX5_init τ o_ a0 a1 = some out_) (hsz : ls.size = nL) (hrm : (rest.map fun v => v.category).sum ≤ 8) (hR : 2 ≤ R.frames ∧ 54 ≤ R.locals) (hcs : cells ≤ R.cells ∧ slots ≤ R.slots) (hlk : Cond.methodLink own index yX5_init ∈ lw_all) (hdg : decode cc pc = .ok (.invokespecial index, 3)) (kk : ∀ (H1 : Heap) (locs1 : List Loc), Hw G A out_ H1 → va_S A s.heap H1 locs1 → W p l e R s m args below meth c H1 locs1 cells slots Q (F0 m (pc + 3) ls (rest))) : W p l e R s m args below meth c H locs cells slots Q (F0 m pc ls (.int a1 :: .ref a0 :: .ref o_ :: rest)) := by
  refine va_callv (va_runI (As := [.ref a0, .int a1]) (rest := rest) ⟨hx, hb, hml, hown, hts⟩ (wX5_init l hd) (cwI 2 hts (lw_meth q694) rfl rfl rfl (hts _ q89) (hts _ hlk) (hts _ q693) rfl (by decide +kernel) hR) (hr_preS hC hW hS) rfl rfl hsz rfl (lv_room hrm) hdg hcs) hS (fun _ _ h => h) (fun _ h => h) (fun u t H1 locs1 ht hvm hp hB hz hk hS1 => ?_)
  have hW1 : Hw G A out_ t.heap := hB
  rw [ht] at hW1
  exact kk H1 locs1 hW1 hS1
noncomputable def bX5_sign_1 (o_ : Nat) (v1 : HP) : Option ((HP) ⊕ (HP)) :=
  wt_bd (hgI v1 o_ [3] 2) fun f11 => wt_bd (hgI v1 o_ [3] 1) fun f13 => if f13 ≤ f11 then (some (.inr v1)) else (wt_bd (hgA v1 o_ [3] 0) fun ad16 => wt_bd (hgI v1 o_ [3] 2) fun f18 => wt_bd (haI v1 ad16 1) fun z20 => wt_ck (vp_in f18 z20.1) <| if (z20.2 f18.toNatClampNeg) = (32 : Int32) then (wt_bd (hgI v1 o_ [3] 2) fun f24 => wt_bd (hp v1 o_ [3] 2 (.int ((f24 + (1 : Int32))))) fun τ26 => some (.inl τ26)) else (some (.inr v1)))
noncomputable def eX5_sign (τ : HP) (o_ : Nat) : Option (Int32 × HP) :=
  wt_bd (wt_whC (bX5_sign_1 o_) τ) fun w2 => wt_bd (hgI w2 o_ [3] 2) fun f28 => wt_bd (hgI w2 o_ [3] 1) fun f30 => if f30 ≤ f28 then (some ((0 : Int32), w2)) else (wt_bd (hgA w2 o_ [3] 0) fun ad33 => wt_bd (hgI w2 o_ [3] 2) fun f35 => wt_bd (haI w2 ad33 1) fun z37 => wt_ck (vp_in f35 z37.1) <| some ((z37.2 f35.toNatClampNeg), w2))
set_option maxHeartbeats 4000000 in
theorem wX5_sign (l : Launch) {G : HG} {A : Nat → Prop} {τ : HP} {o_ : Nat} {out_ : Int32 × HP} (hd : eX5_sign τ o_ = some out_) : Met l yX5_sign (ws_ yX5_sign cX5_sign 1 (some .int)) ({ frames := 0, cells := 0, slots := 0, locals := 0 }) (hPc G A τ [.ref o_]) (hQi G out_.1 out_.2 A) 0 0 A := by
  refine Met.ofW (cc := cX5_sign) (maxL := 1) (ret := (some .int)) (by decide) rfl ?_
  intro p_ e_ s_ m_ args_ below_ meth_ c_ s₁_ B hml hv
  obtain ⟨rfl, hW, hC⟩ := hv
  have hx := B.exec
  have hb := B.bytes
  have hr := B.returns
  have hts := atoms_spec (ws := (ws_ yX5_sign cX5_sign 1 (some .int))) B.pre
  have hts : ∀ w ∈ lw_all, w.before _ s_ = true := fun w h => hts w (List.mem_cons_of_mem _ h)
  have hown : s_.vm.findClass RX5 = some m_.cls := findClass_of_methodNamed B.named
  have hlocks := B.notSynchronized
  have hK := hC.1
  have hT := hC.2.1
  have hL := hC.2.2.1
  have hZ := hC.2.2.2.2.1
  have hA := hC.2.2.2.2.2
  have hS : va_S A s_.heap s_.heap [] := va_S.rf
  have hl := lv_entry ([.ref o_]) (n := 1) (Nat.le_of_ble_eq_true rfl)
  rw [lg_entry_eq]
  generalize (lg_sl ([.ref o_]) ++ List.replicate (1 - (lg_sl ([.ref o_])).length) Slot.unset).toArray = ls at hl ⊢
  have hl : lv_has ls 1 [(0, .ref o_)] := hl
  unfold eX5_sign at hd
  obtain ⟨w2, hL3, hq4⟩ := wt_bd_o hd
  have hX5 : ∀ w2_ : HP, w2_ = w2 → ∀ (H : Heap) (locs : List Loc) (ls : Array Slot), Hw G A w2_ H → va_S A s_.heap H locs → lv_has ls 1 [(0, .ref o_)] → W p_ l e_ (headSpec (ws_ yX5_sign cX5_sign 1 (some .int)) ({ frames := 0, cells := 0, slots := 0, locals := 0 })).room s_ m_ ([.ref o_] : List Value).toArray below_ meth_ c_ H locs 0 0 (MQ below_ (hQi G out_.1 out_.2 A) ([.ref o_] : List Value).toArray s_ 0 0 A) (F0 m_ 38 ls []) := by
    intro w2_ hw_
    have hd := hq4
    subst hw_
    clear hL3 hq4
    intro H locs ls hW hS hl
    refine lv_aload_n (pc := 38) hx hb dX5_sign_38 rfl (lv_at hl 0 rfl) ?_
    obtain ⟨f28, h29, hd⟩ := wt_bd_o hd
    refine hr_get (pc := 39) hx hb hts hown hK hW (hgI_o h29) hf_3_2 (fun _ h => h) q698 dX5_sign_39 ?_
    refine lv_aload_n (pc := 42) hx hb dX5_sign_42 rfl (lv_at hl 0 rfl) ?_
    obtain ⟨f30, h31, hd⟩ := wt_bd_o hd
    refine hr_get (pc := 43) hx hb hts hown hK hW (hgI_o h31) hf_3_1 (fun _ h => h) q697 dX5_sign_43 ?_
    refine lv_icmp_ge (pc := 46) (tgt := 61) hx hb dX5_sign_46 (by decide) (fun c32 => ?_) (fun c32 => ?_)
    · have hd := wt_it hd c32
      refine lv_iconst (pc := 61) (v := 0) hx hb dX5_sign_61 (by decide) ?_
      exact hr_iret hx hb hr rfl hlocks (wt_p1 hd) (wt_p2 hd) hW hS dX5_sign_62 (Nat.le_of_ble_eq_true rfl) (Nat.le_of_ble_eq_true rfl)
    · have hd := wt_if hd c32
      refine lv_aload_n (pc := 49) hx hb dX5_sign_49 rfl (lv_at hl 0 rfl) ?_
      obtain ⟨ad33, h34, hd⟩ := wt_bd_o hd
      refine hr_get (pc := 50) hx hb hts hown hK hW (hgA_o h34) hf_3_0 (fun _ h => h) q696 dX5_sign_50 ?_
      refine lv_aload_n (pc := 53) hx hb dX5_sign_53 rfl (lv_at hl 0 rfl) ?_
      obtain ⟨f35, h36, hd⟩ := wt_bd_o hd
      refine hr_get (pc := 54) hx hb hts hown hK hW (hgI_o h36) hf_3_2 (fun _ h => h) q698 dX5_sign_54 ?_
      obtain ⟨z37, h38, hd⟩ := wt_bd_o hd
      obtain ⟨h39, hd⟩ := wt_ck_o hd
      refine hr_bald (pc := 57) (t := 1) hx hb hK hW h38 rfl h39 dX5_sign_57 ?_
      refine lv_goto (pc := 58) (tgt := 62) hx hb dX5_sign_58 (by decide) ?_
      exact hr_iret hx hb hr rfl hlocks (wt_p1 hd) (wt_p2 hd) hW hS dX5_sign_62 (Nat.le_of_ble_eq_true rfl) (Nat.le_of_ble_eq_true rfl)
  have hI10 : ∀ (k9 : Nat) (v1 : HP), wt_wh (bX5_sign_1 o_) k9 v1 = some w2 → ∀ (H : Heap) (locs : List Loc) (ls : Array Slot), Hw G A v1 H → va_S A s_.heap H locs → lv_has ls 1 [(0, .ref o_)] → W p_ l e_ (headSpec (ws_ yX5_sign cX5_sign 1 (some .int)) ({ frames := 0, cells := 0, slots := 0, locals := 0 })).room s_ m_ ([.ref o_] : List Value).toArray below_ meth_ c_ H locs 0 0 (MQ below_ (hQi G out_.1 out_.2 A) ([.ref o_] : List Value).toArray s_ 0 0 A) (F0 m_ 0 ls []) := by
    intro k9
    induction k9 with
    | zero => intro v1 hd; exact absurd hd wt_wh_z
    | succ k9 ih7 =>
      intro v1 hd
      intro H locs ls hW hS hl
      obtain ⟨r8, hd, hk6⟩ := wt_wh_o hd
      unfold bX5_sign_1 at hd
      refine lv_aload_n (pc := 0) hx hb dX5_sign_0 rfl (lv_at hl 0 rfl) ?_
      obtain ⟨f11, h12, hd⟩ := wt_bd_o hd
      refine hr_get (pc := 1) hx hb hts hown hK hW (hgI_o h12) hf_3_2 (fun _ h => h) q698 dX5_sign_1 ?_
      refine lv_aload_n (pc := 4) hx hb dX5_sign_4 rfl (lv_at hl 0 rfl) ?_
      obtain ⟨f13, h14, hd⟩ := wt_bd_o hd
      refine hr_get (pc := 5) hx hb hts hown hK hW (hgI_o h14) hf_3_1 (fun _ h => h) q697 dX5_sign_5 ?_
      refine lv_icmp_ge (pc := 8) (tgt := 38) hx hb dX5_sign_8 (by decide) (fun c15 => ?_) (fun c15 => ?_)
      · have hd := wt_it hd c15
        exact hX5 v1 (wt_exit hd hk6) _ _ _ hW hS hl
      · have hd := wt_if hd c15
        refine lv_aload_n (pc := 11) hx hb dX5_sign_11 rfl (lv_at hl 0 rfl) ?_
        obtain ⟨ad16, h17, hd⟩ := wt_bd_o hd
        refine hr_get (pc := 12) hx hb hts hown hK hW (hgA_o h17) hf_3_0 (fun _ h => h) q696 dX5_sign_12 ?_
        refine lv_aload_n (pc := 15) hx hb dX5_sign_15 rfl (lv_at hl 0 rfl) ?_
        obtain ⟨f18, h19, hd⟩ := wt_bd_o hd
        refine hr_get (pc := 16) hx hb hts hown hK hW (hgI_o h19) hf_3_2 (fun _ h => h) q698 dX5_sign_16 ?_
        obtain ⟨z20, h21, hd⟩ := wt_bd_o hd
        obtain ⟨h22, hd⟩ := wt_ck_o hd
        refine hr_bald (pc := 19) (t := 1) hx hb hK hW h21 rfl h22 dX5_sign_19 ?_
        refine lv_bipush (pc := 20) (v := 32) hx hb dX5_sign_20 (by decide) ?_
        refine lv_icmp_ne (pc := 22) (tgt := 38) hx hb dX5_sign_22 (by decide) (fun c23 => ?_) (fun c23 => ?_)
        · have hd := wt_if hd c23
          exact hX5 v1 (wt_exit hd hk6) _ _ _ hW hS hl
        · have hd := wt_it hd c23
          refine lv_aload_n (pc := 25) hx hb dX5_sign_25 rfl (lv_at hl 0 rfl) ?_
          refine lv_dup (pc := 26) hx hb dX5_sign_26 rfl ?_
          obtain ⟨f24, h25, hd⟩ := wt_bd_o hd
          refine hr_get (pc := 27) hx hb hts hown hK hW (hgI_o h25) hf_3_2 (fun _ h => h) q698 dX5_sign_27 ?_
          refine lv_iconst (pc := 30) (v := 1) hx hb dX5_sign_30 (by decide) ?_
          refine lv_iadd (pc := 31) hx hb dX5_sign_31 ?_
          obtain ⟨τ26, h27, hd⟩ := wt_bd_o hd
          refine hr_put (pc := 32) (ty := .int) hx hb hts hown hK hW hS h27 hf_3_2 (by decide +kernel) rfl rfl (fun _ h => h) q698 dX5_sign_32 (fun H locs hW hS => ?_)
          refine lv_goto (pc := 35) (tgt := 0) hx hb dX5_sign_35 (by decide) ?_
          exact ih7 _ (wt_again hd hk6) _ _ _ hW hS hl
  obtain ⟨k9, hL3⟩ := wt_whC_o hL3
  exact hI10 k9 _ hL3 _ _ _ hW hS hl
theorem kX5_sign {p : Program} {l : Launch} {e : Env} {R : Room} {s : State} {m : MethodId} {args : Array Value} {below : List Frame} {meth : Method} {c : Code} {H : Heap} {locs : List Loc} {cells slots : Nat} {Q : State → Prop} {cc : ByteArray} {pc : Nat} {ls : Array Slot} {rest : List Value} {nL : Nat} {own : String} {index : Nat} {G : HG} {A : Nat → Prop} {τ : HP} {o_ : Nat} {out_ : Int32 × HP} (hx : p.tables.exec = Jvm.exec) (hb : c.code = cc) (hml : c.maxLocals = nL) (hown : s.vm.findClass own = some m.cls) (hts : ∀ w ∈ lw_all, w.before args s = true) (hC : Hcx G A s) (hW : Hw G A τ H) (hS : va_S A s.heap H locs) (hrc : hcl τ o_ = some 3) (hd : eX5_sign τ o_ = some out_) (hsz : ls.size = nL) (hrm : (rest.map fun v => v.category).sum ≤ 8) (hR : 1 ≤ R.frames ∧ 20 ≤ R.locals) (hcs : cells ≤ R.cells ∧ slots ≤ R.slots) (hlk : Cond.methodLink own index yX5_sign ∈ lw_all) (hdg : decode cc pc = .ok (.invokevirtual index, 3)) (kk : ∀ (H1 : Heap) (locs1 : List Loc), Hw G A out_.2 H1 → va_S A s.heap H1 locs1 → W p l e R s m args below meth c H1 locs1 cells slots Q (F0 m (pc + 3) ls (.int out_.1 :: rest))) : W p l e R s m args below meth c H locs cells slots Q (F0 m pc ls (.ref o_ :: rest)) := by
  refine va_calli (va_runV (As := []) (rest := rest) ⟨hx, hb, hml, hown, hts⟩ (wX5_sign l hd) (cwV 0 hts (lw_V hlk q717 qs5 q89 q718) rfl rfl rfl (by decide +kernel) hR) (hr_preV hC hW hS hrc rfl rfl) rfl rfl hsz rfl (lv_room hrm) hdg hcs) hS (fun _ _ h => h) (fun _ h => h) (fun r u t H1 locs1 ht hvm hp hB hz hk hS1 => ?_)
  have hp : r = out_.1 := hp
  subst hp
  have hW1 : Hw G A out_.2 t.heap := hB
  rw [ht] at hW1
  exact kk H1 locs1 hW1 hS1
noncomputable def bX5_word_1 (o_ : Nat) (w2 : Int32 × HP) (v9 : Int32 × HP) : Option ((Int32 × HP) ⊕ (HP)) :=
  wt_bd (hgI v9.2 o_ [3] 1) fun f19 => if f19 ≤ v9.1 then (some (.inr v9.2)) else (wt_bd (hgA v9.2 o_ [3] 0) fun ad22 => wt_bd (haI v9.2 ad22 1) fun z24 => wt_ck (vp_in v9.1 z24.1) <| if (z24.2 v9.1.toNatClampNeg) < (97 : Int32) then (some (.inr v9.2)) else (wt_bd (hgA v9.2 o_ [3] 0) fun ad28 => wt_bd (haI v9.2 ad28 1) fun z30 => wt_ck (vp_in v9.1 z30.1) <| if (122 : Int32) < (z30.2 v9.1.toNatClampNeg) then (some (.inr v9.2)) else (wt_ck (hcl v9.2 w2.2.2 = some 14) <| wt_bd (eJ8_length v9.2 w2.2.2) fun w35 => if (7 : Int32) ≤ w35 then (some (.inr v9.2)) else (wt_bd (hgA v9.2 o_ [3] 0) fun ad38 => wt_bd (haI v9.2 ad38 1) fun z40 => wt_ck (vp_in v9.1 z40.1) <| wt_ck (hcl v9.2 w2.2.2 = some 14) <| wt_bd (eJ8_append_3 v9.2 w2.2.2 (UInt32.toInt32 (Int32.toUInt32 (z40.2 v9.1.toNatClampNeg) % 65536))) fun w44 => wt_lt (v9.1 + (1 : Int32)) fun n46 => some (.inl (n46, w44.2))))))
noncomputable def eX5_word (τ : HP) (o_ : Nat) : Option (Nat × HP) :=
  wt_ck (hcl τ o_ = some 3) <| wt_bd (eX5_sign τ o_) fun w2 => wt_lt (hnew w2.2 (.inr (14, [.null, .int 0, .int 0, .int 0]))) fun τ4 => wt_bd (eJ8_init τ4 w2.2.2) fun w5 => wt_bd (hgI w5 o_ [3] 2) fun f7 => wt_bd (wt_whC (bX5_word_1 o_ w2) (f7, w5)) fun w10 => wt_ck (hcl w10 w2.2.2 = some 14) <| wt_bd (eJ8_toString w10 w2.2.2) fun w48 => some (w48.1, w48.2)
set_option maxHeartbeats 4000000 in
theorem wX5_word (l : Launch) {G : HG} {A : Nat → Prop} {τ : HP} {o_ : Nat} {out_ : Nat × HP} (hd : eX5_word τ o_ = some out_) : Met l yX5_word (ws_ yX5_word cX5_word 3 (some (.object "java/lang/String"))) ({ frames := 6, cells := 4, slots := 40, locals := 143 }) (hPc G A τ [.ref o_]) (hQr G out_.1 out_.2 A) 4 40 A := by
  refine Met.ofW (cc := cX5_word) (maxL := 3) (ret := (some (.object "java/lang/String"))) (by decide) rfl ?_
  intro p_ e_ s_ m_ args_ below_ meth_ c_ s₁_ B hml hv
  obtain ⟨rfl, hW, hC⟩ := hv
  have hx := B.exec
  have hb := B.bytes
  have hr := B.returns
  have hts := atoms_spec (ws := (ws_ yX5_word cX5_word 3 (some (.object "java/lang/String")))) B.pre
  have hts : ∀ w ∈ lw_all, w.before _ s_ = true := fun w h => hts w (List.mem_cons_of_mem _ h)
  have hown : s_.vm.findClass RX5 = some m_.cls := findClass_of_methodNamed B.named
  have hlocks := B.notSynchronized
  have hK := hC.1
  have hT := hC.2.1
  have hL := hC.2.2.1
  have hZ := hC.2.2.2.2.1
  have hA := hC.2.2.2.2.2
  have hS : va_S A s_.heap s_.heap [] := va_S.rf
  have hl := lv_entry ([.ref o_]) (n := 3) (Nat.le_of_ble_eq_true rfl)
  rw [lg_entry_eq]
  generalize (lg_sl ([.ref o_]) ++ List.replicate (3 - (lg_sl ([.ref o_])).length) Slot.unset).toArray = ls at hl ⊢
  have hl : lv_has ls 3 [(0, .ref o_)] := hl
  unfold eX5_word at hd
  refine lv_aload_n (pc := 0) hx hb dX5_word_0 rfl (lv_at hl 0 rfl) ?_
  obtain ⟨h1, hd⟩ := wt_ck_o hd
  obtain ⟨w2, hc3, hd⟩ := wt_bd_o hd
  refine kX5_sign (pc := 1) hx hb hml hown hts hC hW hS h1 hc3 hl.1 (Nat.le_of_ble_eq_true rfl) ⟨Nat.le_of_ble_eq_true rfl, Nat.le_of_ble_eq_true rfl⟩ ⟨Nat.le_of_ble_eq_true rfl, Nat.le_of_ble_eq_true rfl⟩ q715 dX5_word_1 (fun H locs hW hS => ?_)
  refine lv_pop (pc := 4) hx hb dX5_word_4 rfl ?_
  obtain ⟨τ4, eτ4, hd⟩ := wt_lt_o hd
  refine hr_new (pc := 5) (ci := 14) (fs := [.null, .int 0, .int 0, .int 0]) hx hb hts hown hK hW hS hA rfl tyJ8 tyJ8_ok (by decide +kernel) q727 q229 q77 eτ4 (Nat.le_of_ble_eq_true rfl) (Nat.le_of_ble_eq_true rfl) dX5_word_5 (fun H hW hS => ?_)
  refine lv_dup (pc := 8) hx hb dX5_word_8 rfl ?_
  obtain ⟨w5, hc6, hd⟩ := wt_bd_o hd
  refine kJ8_init (pc := 9) hx hb hml hown hts hC hW hS hc6 hl.1 (Nat.le_of_ble_eq_true rfl) ⟨Nat.le_of_ble_eq_true rfl, Nat.le_of_ble_eq_true rfl⟩ ⟨(Nat.le_of_ble_eq_true rfl), (Nat.le_of_ble_eq_true rfl)⟩ q728 dX5_word_9 (fun H locs hW hS => ?_)
  refine lv_astore_n (pc := 12) (lv' := [(1, .ref w2.2.2), (0, .ref o_)]) hx hb dX5_word_12 rfl hl (by decide) rfl (fun ls hl => ?_)
  refine lv_aload_n (pc := 13) hx hb dX5_word_13 rfl (lv_at hl 1 rfl) ?_
  obtain ⟨f7, h8, hd⟩ := wt_bd_o hd
  refine hr_get (pc := 14) hx hb hts hown hK hW (hgI_o h8) hf_3_2 (fun _ h => h) q698 dX5_word_14 ?_
  refine lv_istore_n (pc := 17) (lv' := [(2, .int f7), (1, .ref w2.2.2), (0, .ref o_)]) hx hb dX5_word_17 rfl hl (by decide) rfl (fun ls hl => ?_)
  obtain ⟨w10, hL11, hq12⟩ := wt_bd_o hd
  have hX13 : ∀ w10_ : HP, w10_ = w10 → ∀ (H : Heap) (locs : List Loc) (ls : Array Slot), Hw G A w10_ H → va_S A s_.heap H locs → lv_has ls 3 [(1, .ref w2.2.2)] → W p_ l e_ (headSpec (ws_ yX5_word cX5_word 3 (some (.object "java/lang/String"))) ({ frames := 6, cells := 4, slots := 40, locals := 143 })).room s_ m_ ([.ref o_] : List Value).toArray below_ meth_ c_ H locs 2 20 (MQ below_ (hQr G out_.1 out_.2 A) ([.ref o_] : List Value).toArray s_ 4 40 A) (F0 m_ 75 ls []) := by
    intro w10_ hw_
    have hd := hq12
    subst hw_
    clear hL11 hq12
    intro H locs ls hW hS hl
    refine lv_aload_n (pc := 75) hx hb dX5_word_75 rfl (lv_at hl 0 rfl) ?_
    obtain ⟨h47, hd⟩ := wt_ck_o hd
    obtain ⟨w48, hc49, hd⟩ := wt_bd_o hd
    refine kJ8_toString (pc := 76) hx hb hml hown hts hC hW hS h47 hc49 hl.1 (Nat.le_of_ble_eq_true rfl) ⟨Nat.le_of_ble_eq_true rfl, Nat.le_of_ble_eq_true rfl⟩ ⟨(Nat.le_of_ble_eq_true rfl), (Nat.le_of_ble_eq_true rfl)⟩ q750 dX5_word_76 (fun H locs hW hS => ?_)
    exact hr_aret hx hb hr (Or.inl ⟨_, rfl⟩) hlocks (wt_p1 hd) (wt_p2 hd) hW hS dX5_word_79 (Nat.le_of_ble_eq_true rfl) (Nat.le_of_ble_eq_true rfl)
  have hI18 : ∀ (k17 : Nat) (v9 : Int32 × HP), wt_wh (bX5_word_1 o_ w2) k17 v9 = some w10 → ∀ (H : Heap) (locs : List Loc) (ls : Array Slot), Hw G A v9.2 H → va_S A s_.heap H locs → lv_has ls 3 [(0, .ref o_), (1, .ref w2.2.2), (2, .int v9.1)] → W p_ l e_ (headSpec (ws_ yX5_word cX5_word 3 (some (.object "java/lang/String"))) ({ frames := 6, cells := 4, slots := 40, locals := 143 })).room s_ m_ ([.ref o_] : List Value).toArray below_ meth_ c_ H locs 2 20 (MQ below_ (hQr G out_.1 out_.2 A) ([.ref o_] : List Value).toArray s_ 4 40 A) (F0 m_ 18 ls []) := by
    intro k17
    induction k17 with
    | zero => intro v9 hd; exact absurd hd wt_wh_z
    | succ k17 ih15 =>
      intro v9 hd
      intro H locs ls hW hS hl
      obtain ⟨r16, hd, hk14⟩ := wt_wh_o hd
      unfold bX5_word_1 at hd
      refine lv_iload_n (pc := 18) hx hb dX5_word_18 rfl (lv_at hl 2 rfl) ?_
      refine lv_aload_n (pc := 19) hx hb dX5_word_19 rfl (lv_at hl 0 rfl) ?_
      obtain ⟨f19, h20, hd⟩ := wt_bd_o hd
      refine hr_get (pc := 20) hx hb hts hown hK hW (hgI_o h20) hf_3_1 (fun _ h => h) q697 dX5_word_20 ?_
      refine lv_icmp_ge (pc := 23) (tgt := 75) hx hb dX5_word_23 (by decide) (fun c21 => ?_) (fun c21 => ?_)
      · have hd := wt_it hd c21
        exact hX13 v9.2 (wt_exit hd hk14) _ _ _ hW hS (lv_sub hl [1] rfl)
      · have hd := wt_if hd c21
        refine lv_aload_n (pc := 26) hx hb dX5_word_26 rfl (lv_at hl 0 rfl) ?_
        obtain ⟨ad22, h23, hd⟩ := wt_bd_o hd
        refine hr_get (pc := 27) hx hb hts hown hK hW (hgA_o h23) hf_3_0 (fun _ h => h) q696 dX5_word_27 ?_
        refine lv_iload_n (pc := 30) hx hb dX5_word_30 rfl (lv_at hl 2 rfl) ?_
        obtain ⟨z24, h25, hd⟩ := wt_bd_o hd
        obtain ⟨h26, hd⟩ := wt_ck_o hd
        refine hr_bald (pc := 31) (t := 1) hx hb hK hW h25 rfl h26 dX5_word_31 ?_
        refine lv_bipush (pc := 32) (v := 97) hx hb dX5_word_32 (by decide) ?_
        refine lv_icmp_lt (pc := 34) (tgt := 75) hx hb dX5_word_34 (by decide) (fun c27 => ?_) (fun c27 => ?_)
        · have hd := wt_it hd c27
          exact hX13 v9.2 (wt_exit hd hk14) _ _ _ hW hS (lv_sub hl [1] rfl)
        · have hd := wt_if hd c27
          refine lv_aload_n (pc := 37) hx hb dX5_word_37 rfl (lv_at hl 0 rfl) ?_
          obtain ⟨ad28, h29, hd⟩ := wt_bd_o hd
          refine hr_get (pc := 38) hx hb hts hown hK hW (hgA_o h29) hf_3_0 (fun _ h => h) q696 dX5_word_38 ?_
          refine lv_iload_n (pc := 41) hx hb dX5_word_41 rfl (lv_at hl 2 rfl) ?_
          obtain ⟨z30, h31, hd⟩ := wt_bd_o hd
          obtain ⟨h32, hd⟩ := wt_ck_o hd
          refine hr_bald (pc := 42) (t := 1) hx hb hK hW h31 rfl h32 dX5_word_42 ?_
          refine lv_bipush (pc := 43) (v := 122) hx hb dX5_word_43 (by decide) ?_
          refine lv_icmp_gt (pc := 45) (tgt := 75) hx hb dX5_word_45 (by decide) (fun c33 => ?_) (fun c33 => ?_)
          · have hd := wt_it hd c33
            exact hX13 v9.2 (wt_exit hd hk14) _ _ _ hW hS (lv_sub hl [1] rfl)
          · have hd := wt_if hd c33
            refine lv_aload_n (pc := 48) hx hb dX5_word_48 rfl (lv_at hl 1 rfl) ?_
            obtain ⟨h34, hd⟩ := wt_ck_o hd
            obtain ⟨w35, hc36, hd⟩ := wt_bd_o hd
            refine kJ8_length (pc := 49) hx hb hml hown hts hC hW hS h34 hc36 hl.1 (Nat.le_of_ble_eq_true rfl) ⟨Nat.le_of_ble_eq_true rfl, Nat.le_of_ble_eq_true rfl⟩ ⟨Nat.le_of_ble_eq_true rfl, Nat.le_of_ble_eq_true rfl⟩ q729 dX5_word_49 (fun H locs hW hS => ?_)
            refine lv_bipush (pc := 52) (v := 7) hx hb dX5_word_52 (by decide) ?_
            refine lv_icmp_ge (pc := 54) (tgt := 75) hx hb dX5_word_54 (by decide) (fun c37 => ?_) (fun c37 => ?_)
            · have hd := wt_it hd c37
              exact hX13 v9.2 (wt_exit hd hk14) _ _ _ hW hS (lv_sub hl [1] rfl)
            · have hd := wt_if hd c37
              refine lv_aload_n (pc := 57) hx hb dX5_word_57 rfl (lv_at hl 1 rfl) ?_
              refine lv_aload_n (pc := 58) hx hb dX5_word_58 rfl (lv_at hl 0 rfl) ?_
              obtain ⟨ad38, h39, hd⟩ := wt_bd_o hd
              refine hr_get (pc := 59) hx hb hts hown hK hW (hgA_o h39) hf_3_0 (fun _ h => h) q696 dX5_word_59 ?_
              refine lv_iload_n (pc := 62) hx hb dX5_word_62 rfl (lv_at hl 2 rfl) ?_
              obtain ⟨z40, h41, hd⟩ := wt_bd_o hd
              obtain ⟨h42, hd⟩ := wt_ck_o hd
              refine hr_bald (pc := 63) (t := 1) hx hb hK hW h41 rfl h42 dX5_word_63 ?_
              refine lv_i2c (pc := 64) hx hb dX5_word_64 rfl ?_
              obtain ⟨h43, hd⟩ := wt_ck_o hd
              obtain ⟨w44, hc45, hd⟩ := wt_bd_o hd
              refine kJ8_append_3 (pc := 65) hx hb hml hown hts hC hW hS h43 hc45 hl.1 (Nat.le_of_ble_eq_true rfl) ⟨Nat.le_of_ble_eq_true rfl, Nat.le_of_ble_eq_true rfl⟩ ⟨Nat.le_of_ble_eq_true rfl, Nat.le_of_ble_eq_true rfl⟩ q730 dX5_word_65 (fun H locs hW hS => ?_)
              refine lv_pop (pc := 68) hx hb dX5_word_68 rfl ?_
              obtain ⟨n46, en46, hd⟩ := wt_lt_o hd
              refine lv_iinc (pc := 69) (k := 2) (v := n46) (lv' := [(2, .int n46), (0, .ref o_), (1, .ref w2.2.2)]) hx hb dX5_word_69 hl rfl en46.symm (by decide) rfl (fun ls hl => ?_)
              refine lv_goto (pc := 72) (tgt := 18) hx hb dX5_word_72 (by decide) ?_
              exact ih15 _ (wt_again hd hk14) _ _ _ hW hS (lv_sub hl [1, 2, 0] rfl)
  obtain ⟨k17, hL11⟩ := wt_whC_o hL11
  exact hI18 k17 _ hL11 _ _ _ hW hS (lv_sub hl [2, 1, 0] rfl)
theorem kX5_word {p : Program} {l : Launch} {e : Env} {R : Room} {s : State} {m : MethodId} {args : Array Value} {below : List Frame} {meth : Method} {c : Code} {H : Heap} {locs : List Loc} {cells slots : Nat} {Q : State → Prop} {cc : ByteArray} {pc : Nat} {ls : Array Slot} {rest : List Value} {nL : Nat} {own : String} {index : Nat} {G : HG} {A : Nat → Prop} {τ : HP} {o_ : Nat} {out_ : Nat × HP} (hx : p.tables.exec = Jvm.exec) (hb : c.code = cc) (hml : c.maxLocals = nL) (hown : s.vm.findClass own = some m.cls) (hts : ∀ w ∈ lw_all, w.before args s = true) (hC : Hcx G A s) (hW : Hw G A τ H) (hS : va_S A s.heap H locs) (hrc : hcl τ o_ = some 3) (hd : eX5_word τ o_ = some out_) (hsz : ls.size = nL) (hrm : (rest.map fun v => v.category).sum ≤ 8) (hR : 7 ≤ R.frames ∧ 165 ≤ R.locals) (hcs : (cells + 4) ≤ R.cells ∧ (slots + 40) ≤ R.slots) (hlk : Cond.methodLink own index yX5_word ∈ lw_all) (hdg : decode cc pc = .ok (.invokevirtual index, 3)) (kk : ∀ (H1 : Heap) (locs1 : List Loc), Hw G A out_.2 H1 → va_S A s.heap H1 locs1 → W p l e R s m args below meth c H1 locs1 (cells + 4) (slots + 40) Q (F0 m (pc + 3) ls (.ref out_.1 :: rest))) : W p l e R s m args below meth c H locs cells slots Q (F0 m pc ls (.ref o_ :: rest)) := by
  refine va_callr (va_runV (As := []) (rest := rest) ⟨hx, hb, hml, hown, hts⟩ (wX5_word l hd) (cwV 0 hts (lw_V hlk q725 qs7 q89 q726) rfl rfl rfl (by decide +kernel) hR) (hr_preV hC hW hS hrc rfl rfl) rfl rfl hsz rfl (lv_room hrm) hdg hcs) hS (fun _ _ h => h) (fun _ h => h) (fun u ra t H1 locs1 ht hvm hp hB hz hk hS1 => ?_)
  have hp : ra = out_.1 := hB.1
  subst hp
  have hW1 : Hw G A out_.2 t.heap := hB.2
  rw [ht] at hW1
  exact kk H1 locs1 hW1 hS1
noncomputable def eX5_wrong (τ : HP) (o_ : Nat) : Option (Nat × HP) :=
  wt_lt (hnew τ (.inr (4, [.null, .null, .null, .null, .null, .int 0, .int 0, .int 0]))) fun τ1 => wt_bd (hgI τ1 o_ [3] 2) fun f2 => wt_bd (eX6_init τ1 τ.2 (1 : Int32) f2) fun w4 => some (τ.2, w4)
set_option maxHeartbeats 4000000 in
theorem wX5_wrong (l : Launch) {G : HG} {A : Nat → Prop} {τ : HP} {o_ : Nat} {out_ : Nat × HP} (hd : eX5_wrong τ o_ = some out_) : Met l yX5_wrong (ws_ yX5_wrong cX5_wrong 1 (some (.object "WoolThreads$Wrong"))) ({ frames := 4, cells := 1, slots := 8, locals := 102 }) (hPc G A τ [.ref o_]) (hQr G out_.1 out_.2 A) 1 8 A := by
  refine Met.ofW (cc := cX5_wrong) (maxL := 1) (ret := (some (.object "WoolThreads$Wrong"))) (by decide) rfl ?_
  intro p_ e_ s_ m_ args_ below_ meth_ c_ s₁_ B hml hv
  obtain ⟨rfl, hW, hC⟩ := hv
  have hx := B.exec
  have hb := B.bytes
  have hr := B.returns
  have hts := atoms_spec (ws := (ws_ yX5_wrong cX5_wrong 1 (some (.object "WoolThreads$Wrong")))) B.pre
  have hts : ∀ w ∈ lw_all, w.before _ s_ = true := fun w h => hts w (List.mem_cons_of_mem _ h)
  have hown : s_.vm.findClass RX5 = some m_.cls := findClass_of_methodNamed B.named
  have hlocks := B.notSynchronized
  have hK := hC.1
  have hT := hC.2.1
  have hL := hC.2.2.1
  have hZ := hC.2.2.2.2.1
  have hA := hC.2.2.2.2.2
  have hS : va_S A s_.heap s_.heap [] := va_S.rf
  have hl := lv_entry ([.ref o_]) (n := 1) (Nat.le_of_ble_eq_true rfl)
  rw [lg_entry_eq]
  generalize (lg_sl ([.ref o_]) ++ List.replicate (1 - (lg_sl ([.ref o_])).length) Slot.unset).toArray = ls at hl ⊢
  have hl : lv_has ls 1 [(0, .ref o_)] := hl
  unfold eX5_wrong at hd
  obtain ⟨τ1, eτ1, hd⟩ := wt_lt_o hd
  refine hr_new (pc := 0) (ci := 4) (fs := [.null, .null, .null, .null, .null, .int 0, .int 0, .int 0]) hx hb hts hown hK hW hS hA rfl tyX6 tyX6_ok (by decide +kernel) q831 q832 q90 eτ1 (Nat.le_of_ble_eq_true rfl) (Nat.le_of_ble_eq_true rfl) dX5_wrong_0 (fun H hW hS => ?_)
  refine lv_dup (pc := 3) hx hb dX5_wrong_3 rfl ?_
  refine lv_iconst (pc := 4) (v := 1) hx hb dX5_wrong_4 (by decide) ?_
  refine lv_aload_n (pc := 5) hx hb dX5_wrong_5 rfl (lv_at hl 0 rfl) ?_
  obtain ⟨f2, h3, hd⟩ := wt_bd_o hd
  refine hr_get (pc := 6) hx hb hts hown hK hW (hgI_o h3) hf_3_2 (fun _ h => h) q698 dX5_wrong_6 ?_
  obtain ⟨w4, hc5, hd⟩ := wt_bd_o hd
  refine kX6_init (pc := 9) hx hb hml hown hts hC hW hS hc5 hl.1 (Nat.le_of_ble_eq_true rfl) ⟨Nat.le_of_ble_eq_true rfl, Nat.le_of_ble_eq_true rfl⟩ ⟨Nat.le_of_ble_eq_true rfl, Nat.le_of_ble_eq_true rfl⟩ q840 dX5_wrong_9 (fun H locs hW hS => ?_)
  exact hr_aret hx hb hr (Or.inl ⟨_, rfl⟩) hlocks (wt_p1 hd) (wt_p2 hd) hW hS dX5_wrong_12 (Nat.le_of_ble_eq_true rfl) (Nat.le_of_ble_eq_true rfl)
theorem kX5_wrong {p : Program} {l : Launch} {e : Env} {R : Room} {s : State} {m : MethodId} {args : Array Value} {below : List Frame} {meth : Method} {c : Code} {H : Heap} {locs : List Loc} {cells slots : Nat} {Q : State → Prop} {cc : ByteArray} {pc : Nat} {ls : Array Slot} {rest : List Value} {nL : Nat} {own : String} {index : Nat} {G : HG} {A : Nat → Prop} {τ : HP} {o_ : Nat} {out_ : Nat × HP} (hx : p.tables.exec = Jvm.exec) (hb : c.code = cc) (hml : c.maxLocals = nL) (hown : s.vm.findClass own = some m.cls) (hts : ∀ w ∈ lw_all, w.before args s = true) (hC : Hcx G A s) (hW : Hw G A τ H) (hS : va_S A s.heap H locs) (hrc : hcl τ o_ = some 3) (hd : eX5_wrong τ o_ = some out_) (hsz : ls.size = nL) (hrm : (rest.map fun v => v.category).sum ≤ 8) (hR : 5 ≤ R.frames ∧ 122 ≤ R.locals) (hcs : (cells + 1) ≤ R.cells ∧ (slots + 8) ≤ R.slots) (hlk : Cond.methodLink own index yX5_wrong ∈ lw_all) (hdg : decode cc pc = .ok (.invokevirtual index, 3)) (kk : ∀ (H1 : Heap) (locs1 : List Loc), Hw G A out_.2 H1 → va_S A s.heap H1 locs1 → W p l e R s m args below meth c H1 locs1 (cells + 1) (slots + 8) Q (F0 m (pc + 3) ls (.ref out_.1 :: rest))) : W p l e R s m args below meth c H locs cells slots Q (F0 m pc ls (.ref o_ :: rest)) := by
  refine va_callr (va_runV (As := []) (rest := rest) ⟨hx, hb, hml, hown, hts⟩ (wX5_wrong l hd) (cwV 0 hts (lw_V hlk q829 qs8 q89 q830) rfl rfl rfl (by decide +kernel) hR) (hr_preV hC hW hS hrc rfl rfl) rfl rfl hsz rfl (lv_room hrm) hdg hcs) hS (fun _ _ h => h) (fun _ h => h) (fun u ra t H1 locs1 ht hvm hp hB hz hk hS1 => ?_)
  have hp : ra = out_.1 := hB.1
  subst hp
  have hW1 : Hw G A out_.2 t.heap := hB.2
  rw [ht] at hW1
  exact kk H1 locs1 hW1 hS1
noncomputable def bX5_number_1 (o_ : Nat) (v14 : Int32 × HP) : Option ((Int32 × HP) ⊕ (Int32 × HP)) :=
  wt_bd (hgI v14.2 o_ [3] 2) fun f24 => wt_bd (hgI v14.2 o_ [3] 1) fun f26 => if f26 ≤ f24 then (some (.inr (v14.1, v14.2))) else (wt_bd (hgA v14.2 o_ [3] 0) fun ad29 => wt_bd (hgI v14.2 o_ [3] 2) fun f31 => wt_bd (haI v14.2 ad29 1) fun z33 => wt_ck (vp_in f31 z33.1) <| if (z33.2 f31.toNatClampNeg) < (48 : Int32) then (some (.inr (v14.1, v14.2))) else (wt_bd (hgA v14.2 o_ [3] 0) fun ad37 => wt_bd (hgI v14.2 o_ [3] 2) fun f39 => wt_bd (haI v14.2 ad37 1) fun z41 => wt_ck (vp_in f39 z41.1) <| if (57 : Int32) < (z41.2 f39.toNatClampNeg) then (some (.inr (v14.1, v14.2))) else (wt_bd (hgA v14.2 o_ [3] 0) fun ad45 => wt_bd (hgI v14.2 o_ [3] 2) fun f47 => wt_bd (haI v14.2 ad45 1) fun z49 => wt_ck (vp_in f47 z49.1) <| wt_lt ((wt_min ((((10 : Int32) * v14.1) + (z49.2 f47.toNatClampNeg)) - (48 : Int32)) (1000 : Int32))) fun n52 => wt_bd (hgI v14.2 o_ [3] 2) fun f53 => wt_bd (hp v14.2 o_ [3] 2 (.int ((f53 + (1 : Int32))))) fun τ55 => some (.inl (n52, τ55)))))
noncomputable def eX5_number (τ : HP) (o_ : Nat) (a0 : Int32) (a1 : Int32) : Option ((Int32 × HP) ⊕ (Nat × Nat × HP)) :=
  wt_ck (hcl τ o_ = some 3) <| wt_bd (eX5_sign τ o_) fun w2 => wt_bd (if w2.1 < (48 : Int32) then (some (.inl ())) else (if w2.1 ≤ (57 : Int32) then (wt_bd (hgI w2.2 o_ [3] 2) fun f10 => wt_bd (hp w2.2 o_ [3] 3 (.int f10)) fun τ12 => wt_bd (wt_whC (bX5_number_1 o_) ((0 : Int32), τ12)) fun w15 => wt_bd (if w15.1 < a0 then (some (.inl ())) else (if w15.1 ≤ a1 then (some (.inr (.inr (.inl (w15.1, w15.2))))) else (some (.inl ())))) fun w57 => wt_rs w57 (fun w57 => wt_lt (hnew w15.2 (.inr (4, [.null, .null, .null, .null, .null, .int 0, .int 0, .int 0]))) fun τ63 => wt_bd (hgI τ63 o_ [3] 3) fun f64 => wt_bd (eX6_init τ63 w15.2.2 (2 : Int32) f64) fun w66 => wt_ck (hcl w66 w15.2.2 = some 4) <| some (.inr (.inr (4, w15.2.2, w66)))) (fun z_ => some z_)) else (some (.inl ())))) fun w4 => wt_rs w4 (fun w4 => wt_ck (hcl w2.2 o_ = some 3) <| wt_bd (eX5_wrong w2.2 o_) fun w70 => wt_ck (hcl w70.2 w70.1 = some 4) <| some (.inr (4, w70.1, w70.2))) (fun z_ => some z_)
set_option maxHeartbeats 4000000 in
theorem wX5_number (l : Launch) (hfl : l.stackTraces = false) {G : HG} {A : Nat → Prop} {τ : HP} {o_ : Nat} {a0 : Int32} {a1 : Int32} {out_ : (Int32 × HP) ⊕ (Nat × Nat × HP)} (hd : eX5_number τ o_ a0 a1 = some out_) : vx_Met l yX5_number (ws_ yX5_number cX5_number 5 (some .int)) ({ frames := 5, cells := 1, slots := 8, locals := 122 }) (hPc G A τ [.ref o_, .int a0, .int a1]) (hXi G A (fun r u => Sum.inl (r, u) = out_)) (hXX G A out_) 1 8 A := by
  refine vx_ofW (cc := cX5_number) (maxL := 5) (ret := (some .int)) (by decide) rfl ?_
  intro p_ e_ s_ m_ args_ below_ meth_ c_ s₁_ B hml hno hv
  obtain ⟨rfl, hW, hC⟩ := hv
  have hx := B.exec
  have hb := B.bytes
  have hr := B.returns
  have hts := atoms_spec (ws := (ws_ yX5_number cX5_number 5 (some .int))) B.pre
  have hts : ∀ w ∈ lw_all, w.before _ s_ = true := fun w h => hts w (List.mem_cons_of_mem _ h)
  have hown : s_.vm.findClass RX5 = some m_.cls := findClass_of_methodNamed B.named
  have hlocks := B.notSynchronized
  have hK := hC.1
  have hT := hC.2.1
  have hL := hC.2.2.1
  have hZ := hC.2.2.2.2.1
  have hA := hC.2.2.2.2.2
  have hS : va_S A s_.heap s_.heap [] := va_S.rf
  have hl := lv_entry ([.ref o_, .int a0, .int a1]) (n := 5) (Nat.le_of_ble_eq_true rfl)
  rw [lg_entry_eq]
  generalize (lg_sl ([.ref o_, .int a0, .int a1]) ++ List.replicate (5 - (lg_sl ([.ref o_, .int a0, .int a1])).length) Slot.unset).toArray = ls at hl ⊢
  have hl : lv_has ls 5 [(0, .ref o_), (1, .int a0), (2, .int a1)] := hl
  unfold eX5_number at hd
  refine lv_aload_n (pc := 0) hx hb dX5_number_0 rfl (lv_at hl 0 rfl) ?_
  obtain ⟨h1, hd⟩ := wt_ck_o hd
  obtain ⟨w2, hc3, hd⟩ := wt_bd_o hd
  refine kX5_sign (pc := 1) hx hb hml hown hts hC hW hS h1 hc3 hl.1 (Nat.le_of_ble_eq_true rfl) ⟨Nat.le_of_ble_eq_true rfl, Nat.le_of_ble_eq_true rfl⟩ ⟨Nat.le_of_ble_eq_true rfl, Nat.le_of_ble_eq_true rfl⟩ q715 dX5_number_1 (fun H locs hW hS => ?_)
  refine lv_istore_n (pc := 4) (lv' := [(3, .int w2.1), (0, .ref o_), (1, .int a0), (2, .int a1)]) hx hb dX5_number_4 rfl hl (by decide) rfl (fun ls hl => ?_)
  refine lv_iload_n (pc := 5) hx hb dX5_number_5 rfl (lv_at hl 0 rfl) ?_
  refine lv_bipush (pc := 6) (v := 48) hx hb dX5_number_6 (by decide) ?_
  obtain ⟨w4, hj5, hq6⟩ := wt_bd_o hd
  have hX7 : ∀ w4_ : Unit, (Sum.inl w4_ : (Unit) ⊕ _) = w4 → ∀ (H : Heap) (locs : List Loc) (ls : Array Slot), Hw G A w2.2 H → va_S A s_.heap H locs → lv_has ls 5 [(0, .ref o_)] → W p_ l e_ (headSpec (ws_ yX5_number cX5_number 5 (some .int)) ({ frames := 5, cells := 1, slots := 8, locals := 122 })).room s_ m_ ([.ref o_, .int a0, .int a1] : List Value).toArray below_ meth_ c_ H locs 0 0 (vx_MQ below_ (hXi G A (fun r u => Sum.inl (r, u) = out_)) (hXX G A out_) ([.ref o_, .int a0, .int a1] : List Value).toArray s_ 1 8 A) (F0 m_ 17 ls []) := by
    intro w4_ hw_
    have hd := wt_rs_l hw_ hq6
    clear hj5 hq6
    intro H locs ls hW hS hl
    refine lv_aload_n (pc := 17) hx hb dX5_number_17 rfl (lv_at hl 0 rfl) ?_
    obtain ⟨h69, hd⟩ := wt_ck_o hd
    obtain ⟨w70, hc71, hd⟩ := wt_bd_o hd
    refine kX5_wrong (pc := 18) hx hb hml hown hts hC hW hS h69 hc71 hl.1 (Nat.le_of_ble_eq_true rfl) ⟨Nat.le_of_ble_eq_true rfl, Nat.le_of_ble_eq_true rfl⟩ ⟨(Nat.le_of_ble_eq_true rfl), (Nat.le_of_ble_eq_true rfl)⟩ q827 dX5_number_18 (fun H locs hW hS => ?_)
    obtain ⟨h72, hd⟩ := wt_ck_o hd
    exact hx_throwW (pc := 21) hx hb hC hno hlocks h72 (Option.some.inj hd) hW hS dX5_number_21 (Nat.le_of_ble_eq_true rfl) (Nat.le_of_ble_eq_true rfl)
  have hd := hj5
  refine lv_icmp_lt (pc := 8) (tgt := 17) hx hb dX5_number_8 (by decide) (fun c8 => ?_) (fun c8 => ?_)
  · have hd := wt_it hd c8
    exact hX7 () (Option.some.inj hd) _ _ _ hW hS (lv_sub hl [1] rfl)
  · have hd := wt_if hd c8
    refine lv_iload_n (pc := 11) hx hb dX5_number_11 rfl (lv_at hl 0 rfl) ?_
    refine lv_bipush (pc := 12) (v := 57) hx hb dX5_number_12 (by decide) ?_
    refine lv_icmp_le (pc := 14) (tgt := 22) hx hb dX5_number_14 (by decide) (fun c9 => ?_) (fun c9 => ?_)
    · have hd := wt_it hd c9
      refine lv_aload_n (pc := 22) hx hb dX5_number_22 rfl (lv_at hl 1 rfl) ?_
      refine lv_aload_n (pc := 23) hx hb dX5_number_23 rfl (lv_at hl 1 rfl) ?_
      obtain ⟨f10, h11, hd⟩ := wt_bd_o hd
      refine hr_get (pc := 24) hx hb hts hown hK hW (hgI_o h11) hf_3_2 (fun _ h => h) q698 dX5_number_24 ?_
      obtain ⟨τ12, h13, hd⟩ := wt_bd_o hd
      refine hr_put (pc := 27) (ty := .int) hx hb hts hown hK hW hS h13 hf_3_3 (by decide +kernel) rfl rfl (fun _ h => h) q699 dX5_number_27 (fun H locs hW hS => ?_)
      refine lv_iconst (pc := 30) (v := 0) hx hb dX5_number_30 (by decide) ?_
      refine lv_istore (pc := 31) (lv' := [(4, .int (0 : Int32)), (3, .int w2.1), (0, .ref o_), (1, .int a0), (2, .int a1)]) hx hb dX5_number_31 hl (by decide) rfl (fun ls hl => ?_)
      obtain ⟨w15, hL16, hq17⟩ := wt_bd_o hd
      have hX18 : ∀ w15_ : Int32 × HP, w15_ = w15 → ∀ (H : Heap) (locs : List Loc) (ls : Array Slot), Hw G A w15_.2 H → va_S A s_.heap H locs → lv_has ls 5 [(0, .ref o_), (1, .int a0), (2, .int a1), (4, .int w15_.1)] → W p_ l e_ (headSpec (ws_ yX5_number cX5_number 5 (some .int)) ({ frames := 5, cells := 1, slots := 8, locals := 122 })).room s_ m_ ([.ref o_, .int a0, .int a1] : List Value).toArray below_ meth_ c_ H locs 0 0 (vx_MQ below_ (hXi G A (fun r u => Sum.inl (r, u) = out_)) (hXX G A out_) ([.ref o_, .int a0, .int a1] : List Value).toArray s_ 1 8 A) (F0 m_ 111 ls []) := by
        intro w15_ hw_
        have hd := hq17
        subst hw_
        clear hL16 hq17
        intro H locs ls hW hS hl
        refine lv_iload (pc := 111) hx hb dX5_number_111 (lv_at hl 3 rfl) ?_
        refine lv_iload_n (pc := 113) hx hb dX5_number_113 rfl (lv_at hl 1 rfl) ?_
        obtain ⟨w57, hj58, hq59⟩ := wt_bd_o hd
        have hX60 : ∀ w57_ : Unit, (Sum.inl w57_ : (Unit) ⊕ _) = w57 → ∀ (H : Heap) (locs : List Loc) (ls : Array Slot), Hw G A w15_.2 H → va_S A s_.heap H locs → lv_has ls 5 [(0, .ref o_)] → W p_ l e_ (headSpec (ws_ yX5_number cX5_number 5 (some .int)) ({ frames := 5, cells := 1, slots := 8, locals := 122 })).room s_ m_ ([.ref o_, .int a0, .int a1] : List Value).toArray below_ meth_ c_ H locs 0 0 (vx_MQ below_ (hXi G A (fun r u => Sum.inl (r, u) = out_)) (hXX G A out_) ([.ref o_, .int a0, .int a1] : List Value).toArray s_ 1 8 A) (F0 m_ 123 ls []) := by
          intro w57_ hw_
          have hd := wt_rs_l hw_ hq59
          clear hj58 hq59
          intro H locs ls hW hS hl
          obtain ⟨τ63, eτ63, hd⟩ := wt_lt_o hd
          refine hr_new (pc := 123) (ci := 4) (fs := [.null, .null, .null, .null, .null, .int 0, .int 0, .int 0]) hx hb hts hown hK hW hS hA rfl tyX6 tyX6_ok (by decide +kernel) q831 q832 q90 eτ63 (Nat.le_of_ble_eq_true rfl) (Nat.le_of_ble_eq_true rfl) dX5_number_123 (fun H hW hS => ?_)
          refine lv_dup (pc := 126) hx hb dX5_number_126 rfl ?_
          refine lv_iconst (pc := 127) (v := 2) hx hb dX5_number_127 (by decide) ?_
          refine lv_aload_n (pc := 128) hx hb dX5_number_128 rfl (lv_at hl 0 rfl) ?_
          obtain ⟨f64, h65, hd⟩ := wt_bd_o hd
          refine hr_get (pc := 129) hx hb hts hown hK hW (hgI_o h65) hf_3_3 (fun _ h => h) q699 dX5_number_129 ?_
          obtain ⟨w66, hc67, hd⟩ := wt_bd_o hd
          refine kX6_init (pc := 132) hx hb hml hown hts hC hW hS hc67 hl.1 (Nat.le_of_ble_eq_true rfl) ⟨Nat.le_of_ble_eq_true rfl, Nat.le_of_ble_eq_true rfl⟩ ⟨Nat.le_of_ble_eq_true rfl, Nat.le_of_ble_eq_true rfl⟩ q840 dX5_number_132 (fun H locs hW hS => ?_)
          obtain ⟨h68, hd⟩ := wt_ck_o hd
          have hd := wt_rs_r (Option.some.inj hd) hq6
          exact hx_throwW (pc := 135) hx hb hC hno hlocks h68 (Option.some.inj hd) hW hS dX5_number_135 (Nat.le_of_ble_eq_true rfl) (Nat.le_of_ble_eq_true rfl)
        have hd := hj58
        refine lv_icmp_lt (pc := 114) (tgt := 123) hx hb dX5_number_114 (by decide) (fun c61 => ?_) (fun c61 => ?_)
        · have hd := wt_it hd c61
          exact hX60 () (Option.some.inj hd) _ _ _ hW hS (lv_sub hl [0] rfl)
        · have hd := wt_if hd c61
          refine lv_iload (pc := 117) hx hb dX5_number_117 (lv_at hl 3 rfl) ?_
          refine lv_iload_n (pc := 119) hx hb dX5_number_119 rfl (lv_at hl 2 rfl) ?_
          refine lv_icmp_le (pc := 120) (tgt := 136) hx hb dX5_number_120 (by decide) (fun c62 => ?_) (fun c62 => ?_)
          · have hd := wt_it hd c62
            refine lv_iload (pc := 136) hx hb dX5_number_136 (lv_at hl 3 rfl) ?_
            have hd := wt_rs_r (Option.some.inj hd) hq59
            have hd := wt_rs_r (Option.some.inj hd) hq6
            refine vx_ret ?_
            exact hx_iret hx hb hr rfl hlocks (Option.some.inj hd) hW hS dX5_number_138 (Nat.le_of_ble_eq_true rfl) (Nat.le_of_ble_eq_true rfl)
          · have hd := wt_if hd c62
            exact hX60 () (Option.some.inj hd) _ _ _ hW hS (lv_sub hl [0] rfl)
      have hI23 : ∀ (k22 : Nat) (v14 : Int32 × HP), wt_wh (bX5_number_1 o_) k22 v14 = some w15 → ∀ (H : Heap) (locs : List Loc) (ls : Array Slot), Hw G A v14.2 H → va_S A s_.heap H locs → lv_has ls 5 [(0, .ref o_), (1, .int a0), (2, .int a1), (4, .int v14.1)] → W p_ l e_ (headSpec (ws_ yX5_number cX5_number 5 (some .int)) ({ frames := 5, cells := 1, slots := 8, locals := 122 })).room s_ m_ ([.ref o_, .int a0, .int a1] : List Value).toArray below_ meth_ c_ H locs 0 0 (vx_MQ below_ (hXi G A (fun r u => Sum.inl (r, u) = out_)) (hXX G A out_) ([.ref o_, .int a0, .int a1] : List Value).toArray s_ 1 8 A) (F0 m_ 33 ls []) := by
        intro k22
        induction k22 with
        | zero => intro v14 hd; exact absurd hd wt_wh_z
        | succ k22 ih20 =>
          intro v14 hd
          intro H locs ls hW hS hl
          obtain ⟨r21, hd, hk19⟩ := wt_wh_o hd
          unfold bX5_number_1 at hd
          refine lv_aload_n (pc := 33) hx hb dX5_number_33 rfl (lv_at hl 0 rfl) ?_
          obtain ⟨f24, h25, hd⟩ := wt_bd_o hd
          refine hr_get (pc := 34) hx hb hts hown hK hW (hgI_o h25) hf_3_2 (fun _ h => h) q698 dX5_number_34 ?_
          refine lv_aload_n (pc := 37) hx hb dX5_number_37 rfl (lv_at hl 0 rfl) ?_
          obtain ⟨f26, h27, hd⟩ := wt_bd_o hd
          refine hr_get (pc := 38) hx hb hts hown hK hW (hgI_o h27) hf_3_1 (fun _ h => h) q697 dX5_number_38 ?_
          refine lv_icmp_ge (pc := 41) (tgt := 111) hx hb dX5_number_41 (by decide) (fun c28 => ?_) (fun c28 => ?_)
          · have hd := wt_it hd c28
            exact hX18 (v14.1, v14.2) (wt_exit hd hk19) _ _ _ hW hS hl
          · have hd := wt_if hd c28
            refine lv_aload_n (pc := 44) hx hb dX5_number_44 rfl (lv_at hl 0 rfl) ?_
            obtain ⟨ad29, h30, hd⟩ := wt_bd_o hd
            refine hr_get (pc := 45) hx hb hts hown hK hW (hgA_o h30) hf_3_0 (fun _ h => h) q696 dX5_number_45 ?_
            refine lv_aload_n (pc := 48) hx hb dX5_number_48 rfl (lv_at hl 0 rfl) ?_
            obtain ⟨f31, h32, hd⟩ := wt_bd_o hd
            refine hr_get (pc := 49) hx hb hts hown hK hW (hgI_o h32) hf_3_2 (fun _ h => h) q698 dX5_number_49 ?_
            obtain ⟨z33, h34, hd⟩ := wt_bd_o hd
            obtain ⟨h35, hd⟩ := wt_ck_o hd
            refine hr_bald (pc := 52) (t := 1) hx hb hK hW h34 rfl h35 dX5_number_52 ?_
            refine lv_bipush (pc := 53) (v := 48) hx hb dX5_number_53 (by decide) ?_
            refine lv_icmp_lt (pc := 55) (tgt := 111) hx hb dX5_number_55 (by decide) (fun c36 => ?_) (fun c36 => ?_)
            · have hd := wt_it hd c36
              exact hX18 (v14.1, v14.2) (wt_exit hd hk19) _ _ _ hW hS hl
            · have hd := wt_if hd c36
              refine lv_aload_n (pc := 58) hx hb dX5_number_58 rfl (lv_at hl 0 rfl) ?_
              obtain ⟨ad37, h38, hd⟩ := wt_bd_o hd
              refine hr_get (pc := 59) hx hb hts hown hK hW (hgA_o h38) hf_3_0 (fun _ h => h) q696 dX5_number_59 ?_
              refine lv_aload_n (pc := 62) hx hb dX5_number_62 rfl (lv_at hl 0 rfl) ?_
              obtain ⟨f39, h40, hd⟩ := wt_bd_o hd
              refine hr_get (pc := 63) hx hb hts hown hK hW (hgI_o h40) hf_3_2 (fun _ h => h) q698 dX5_number_63 ?_
              obtain ⟨z41, h42, hd⟩ := wt_bd_o hd
              obtain ⟨h43, hd⟩ := wt_ck_o hd
              refine hr_bald (pc := 66) (t := 1) hx hb hK hW h42 rfl h43 dX5_number_66 ?_
              refine lv_bipush (pc := 67) (v := 57) hx hb dX5_number_67 (by decide) ?_
              refine lv_icmp_gt (pc := 69) (tgt := 111) hx hb dX5_number_69 (by decide) (fun c44 => ?_) (fun c44 => ?_)
              · have hd := wt_it hd c44
                exact hX18 (v14.1, v14.2) (wt_exit hd hk19) _ _ _ hW hS hl
              · have hd := wt_if hd c44
                refine lv_bipush (pc := 72) (v := 10) hx hb dX5_number_72 (by decide) ?_
                refine lv_iload (pc := 74) hx hb dX5_number_74 (lv_at hl 3 rfl) ?_
                refine lv_imul (pc := 76) hx hb dX5_number_76 ?_
                refine lv_aload_n (pc := 77) hx hb dX5_number_77 rfl (lv_at hl 0 rfl) ?_
                obtain ⟨ad45, h46, hd⟩ := wt_bd_o hd
                refine hr_get (pc := 78) hx hb hts hown hK hW (hgA_o h46) hf_3_0 (fun _ h => h) q696 dX5_number_78 ?_
                refine lv_aload_n (pc := 81) hx hb dX5_number_81 rfl (lv_at hl 0 rfl) ?_
                obtain ⟨f47, h48, hd⟩ := wt_bd_o hd
                refine hr_get (pc := 82) hx hb hts hown hK hW (hgI_o h48) hf_3_2 (fun _ h => h) q698 dX5_number_82 ?_
                obtain ⟨z49, h50, hd⟩ := wt_bd_o hd
                obtain ⟨h51, hd⟩ := wt_ck_o hd
                refine hr_bald (pc := 85) (t := 1) hx hb hK hW h50 rfl h51 dX5_number_85 ?_
                refine lv_iadd (pc := 86) hx hb dX5_number_86 ?_
                refine lv_bipush (pc := 87) (v := 48) hx hb dX5_number_87 (by decide) ?_
                refine lv_isub (pc := 89) hx hb dX5_number_89 ?_
                refine lv_sipush (pc := 90) (v := 1000) hx hb dX5_number_90 (by decide) ?_
                refine va_mmin (pc := 93) hx hb (hml.trans hl.1.symm) hown (hts _ q864) (hts _ q302) (hts _ q81) (hts _ q303) (Nat.le_of_ble_eq_true rfl) (Nat.le_of_ble_eq_true rfl) (Nat.le_of_ble_eq_true rfl) (Nat.le_of_ble_eq_true rfl) dX5_number_93 ?_
                obtain ⟨n52, en52, hd⟩ := wt_lt_o hd
                refine lv_tope en52 ?_
                refine lv_istore (pc := 96) (lv' := [(4, .int n52), (0, .ref o_), (1, .int a0), (2, .int a1)]) hx hb dX5_number_96 hl (by decide) rfl (fun ls hl => ?_)
                refine lv_aload_n (pc := 98) hx hb dX5_number_98 rfl (lv_at hl 1 rfl) ?_
                refine lv_dup (pc := 99) hx hb dX5_number_99 rfl ?_
                obtain ⟨f53, h54, hd⟩ := wt_bd_o hd
                refine hr_get (pc := 100) hx hb hts hown hK hW (hgI_o h54) hf_3_2 (fun _ h => h) q698 dX5_number_100 ?_
                refine lv_iconst (pc := 103) (v := 1) hx hb dX5_number_103 (by decide) ?_
                refine lv_iadd (pc := 104) hx hb dX5_number_104 ?_
                obtain ⟨τ55, h56, hd⟩ := wt_bd_o hd
                refine hr_put (pc := 105) (ty := .int) hx hb hts hown hK hW hS h56 hf_3_2 (by decide +kernel) rfl rfl (fun _ h => h) q698 dX5_number_105 (fun H locs hW hS => ?_)
                refine lv_goto (pc := 108) (tgt := 33) hx hb dX5_number_108 (by decide) ?_
                exact ih20 _ (wt_again hd hk19) _ _ _ hW hS (lv_sub hl [1, 2, 3, 0] rfl)
      obtain ⟨k22, hL16⟩ := wt_whC_o hL16
      exact hI23 k22 _ hL16 _ _ _ hW hS (lv_sub hl [2, 3, 4, 0] rfl)
    · have hd := wt_if hd c9
      exact hX7 () (Option.some.inj hd) _ _ _ hW hS (lv_sub hl [1] rfl)
theorem kX5_number {p : Program} {l : Launch} {e : Env} {R : Room} {s : State} {m : MethodId} {args : Array Value} {below : List Frame} {meth : Method} {c : Code} {H : Heap} {locs : List Loc} {cells slots : Nat} {Q : State → Prop} {cc : ByteArray} {pc : Nat} {ls : Array Slot} {rest : List Value} {nL : Nat} {own : String} {index : Nat} {G : HG} {A : Nat → Prop} {τ : HP} {o_ : Nat} {a0 : Int32} {a1 : Int32} {out_ : (Int32 × HP) ⊕ (Nat × Nat × HP)} (hfl : l.stackTraces = false) (hx : p.tables.exec = Jvm.exec) (hb : c.code = cc) (hml : c.maxLocals = nL) (hown : s.vm.findClass own = some m.cls) (hts : ∀ w ∈ lw_all, w.before args s = true) (hC : Hcx G A s) (hW : Hw G A τ H) (hS : va_S A s.heap H locs) (hrc : hcl τ o_ = some 3) (hd : eX5_number τ o_ a0 a1 = some out_) (hsz : ls.size = nL) (hrm : (rest.map fun v => v.category).sum ≤ 8) (hR : 6 ≤ R.frames ∧ 146 ≤ R.locals) (hcs : (cells + 1) ≤ R.cells ∧ (slots + 8) ≤ R.slots) (hlk : Cond.methodLink own index yX5_number ∈ lw_all) (hdg : decode cc pc = .ok (.invokevirtual index, 3)) (kx : ∀ x_ : Nat × Nat × HP, Sum.inr x_ = out_ → ∀ (E : String) (ce : Cell) (q9 : Addr) (H1 : Heap) (locs1 : List Loc), hXb G A E q9 x_ H1 → va_S A s.heap H1 locs1 → H1[q9]? = some ce → ce.vm = .none → s.vm.findClass E = some ce.cls → vx_W p l e R s m args below meth c H1 locs1 (cells + 1) (slots + 8) Q (F0 m pc ls rest) q9) (kk : ∀ o_1 : Int32 × HP, Sum.inl o_1 = out_ → ∀ (H1 : Heap) (locs1 : List Loc), Hw G A o_1.2 H1 → va_S A s.heap H1 locs1 → W p l e R s m args below meth c H1 locs1 (cells + 1) (slots + 8) Q (F0 m (pc + 3) ls (.int o_1.1 :: rest))) : W p l e R s m args below meth c H locs cells slots Q (F0 m pc ls (.int a1 :: .int a0 :: .ref o_ :: rest)) := by
  refine vx_calli (vx_runV (As := [.int a0, .int a1]) (rest := rest) ⟨hx, hb, hml, hown, hts⟩ (wX5_number l hfl hd) (cwV 2 hts (lw_V hlk q862 qs9 q89 q863) rfl rfl rfl (by decide +kernel) hR) (hr_preV hC hW hS hrc rfl rfl) rfl rfl hsz rfl (lv_room hrm) hdg hcs) hS (fun _ _ h => h) (fun _ h => h) (fun _ _ h => h) (fun E ce q9 u t H1 locs1 ht hvm hp hB hz hk hS1 hce hvn hfc => ?_) (fun r u t H1 locs1 ht hvm hp hB hz hk hS1 => ?_)
  · rw [ht] at hB
    exact kx u hp E ce q9 H1 locs1 hB hS1 hce hvn hfc
  · have hW1 : Hw G A u t.heap := hB
    rw [ht] at hW1
    exact kk (r, u) hp H1 locs1 hW1 hS1
noncomputable def eX5_other (τ : HP) (o_ : Nat) (a0 : Int32) (a1 : Int32) : Option ((Int32 × HP) ⊕ (Nat × Nat × HP)) :=
  wt_ck (hcl τ o_ = some 3) <| wt_bd (eX5_number τ o_ (0 : Int32) (a1 - (1 : Int32))) fun w2 => wt_rs w2 (fun o4 => if o4.1 = a0 then (wt_lt (hnew o4.2 (.inr (4, [.null, .null, .null, .null, .null, .int 0, .int 0, .int 0]))) fun τ6 => wt_bd (hgI τ6 o_ [3] 3) fun f7 => wt_bd (eX6_init τ6 o4.2.2 (2 : Int32) f7) fun w9 => wt_ck (hcl w9 o4.2.2 = some 4) <| some (.inr (4, o4.2.2, w9))) else (some (.inl (o4.1, o4.2)))) (fun x_ => some (.inr x_))
set_option maxHeartbeats 4000000 in
theorem wX5_other (l : Launch) (hfl : l.stackTraces = false) {G : HG} {A : Nat → Prop} {τ : HP} {o_ : Nat} {a0 : Int32} {a1 : Int32} {out_ : (Int32 × HP) ⊕ (Nat × Nat × HP)} (hd : eX5_other τ o_ a0 a1 = some out_) : vx_Met l yX5_other (ws_ yX5_other cX5_other 4 (some .int)) ({ frames := 6, cells := 2, slots := 16, locals := 146 }) (hPc G A τ [.ref o_, .int a0, .int a1]) (hXi G A (fun r u => Sum.inl (r, u) = out_)) (hXX G A out_) 2 16 A := by
  refine vx_ofW (cc := cX5_other) (maxL := 4) (ret := (some .int)) (by decide) rfl ?_
  intro p_ e_ s_ m_ args_ below_ meth_ c_ s₁_ B hml hno hv
  obtain ⟨rfl, hW, hC⟩ := hv
  have hx := B.exec
  have hb := B.bytes
  have hr := B.returns
  have hts := atoms_spec (ws := (ws_ yX5_other cX5_other 4 (some .int))) B.pre
  have hts : ∀ w ∈ lw_all, w.before _ s_ = true := fun w h => hts w (List.mem_cons_of_mem _ h)
  have hown : s_.vm.findClass RX5 = some m_.cls := findClass_of_methodNamed B.named
  have hlocks := B.notSynchronized
  have hK := hC.1
  have hT := hC.2.1
  have hL := hC.2.2.1
  have hZ := hC.2.2.2.2.1
  have hA := hC.2.2.2.2.2
  have hS : va_S A s_.heap s_.heap [] := va_S.rf
  have hl := lv_entry ([.ref o_, .int a0, .int a1]) (n := 4) (Nat.le_of_ble_eq_true rfl)
  rw [lg_entry_eq]
  generalize (lg_sl ([.ref o_, .int a0, .int a1]) ++ List.replicate (4 - (lg_sl ([.ref o_, .int a0, .int a1])).length) Slot.unset).toArray = ls at hl ⊢
  have hl : lv_has ls 4 [(0, .ref o_), (1, .int a0), (2, .int a1)] := hl
  unfold eX5_other at hd
  refine lv_aload_n (pc := 0) hx hb dX5_other_0 rfl (lv_at hl 0 rfl) ?_
  refine lv_iconst (pc := 1) (v := 0) hx hb dX5_other_1 (by decide) ?_
  refine lv_iload_n (pc := 2) hx hb dX5_other_2 rfl (lv_at hl 2 rfl) ?_
  refine lv_iconst (pc := 3) (v := 1) hx hb dX5_other_3 (by decide) ?_
  refine lv_isub (pc := 4) hx hb dX5_other_4 ?_
  obtain ⟨h1, hd⟩ := wt_ck_o hd
  obtain ⟨w2, hc3, hd⟩ := wt_bd_o hd
  refine kX5_number (pc := 5) hfl hx hb hml hown hts hC hW hS h1 hc3 hl.1 (Nat.le_of_ble_eq_true rfl) ⟨Nat.le_of_ble_eq_true rfl, Nat.le_of_ble_eq_true rfl⟩ ⟨(Nat.le_of_ble_eq_true rfl), (Nat.le_of_ble_eq_true rfl)⟩ q860 dX5_other_5 (fun x_ hx_ E_ ce_ q9_ H locs hXB hS hce hvn hfc => ?_) (fun o4 ho_ H locs hW hS => ?_)
  · have hd := wt_rs_r hx_ hd
    exact hx_out (fun z hz => (hno z hz).elim) hlocks hce hvn hfc (Option.some.inj hd) hXB hS (Nat.le_of_ble_eq_true rfl) (Nat.le_of_ble_eq_true rfl)
  · have hd := wt_rs_l ho_ hd
    refine lv_istore_n (pc := 8) (lv' := [(3, .int o4.1), (0, .ref o_), (1, .int a0), (2, .int a1)]) hx hb dX5_other_8 rfl hl (by decide) rfl (fun ls hl => ?_)
    refine lv_iload_n (pc := 9) hx hb dX5_other_9 rfl (lv_at hl 0 rfl) ?_
    refine lv_iload_n (pc := 10) hx hb dX5_other_10 rfl (lv_at hl 2 rfl) ?_
    refine lv_icmp_ne (pc := 11) (tgt := 27) hx hb dX5_other_11 (by decide) (fun c5 => ?_) (fun c5 => ?_)
    · have hd := wt_if hd c5
      refine lv_iload_n (pc := 27) hx hb dX5_other_27 rfl (lv_at hl 0 rfl) ?_
      refine vx_ret ?_
      exact hx_iret hx hb hr rfl hlocks (Option.some.inj hd) hW hS dX5_other_28 (Nat.le_of_ble_eq_true rfl) (Nat.le_of_ble_eq_true rfl)
    · have hd := wt_it hd c5
      obtain ⟨τ6, eτ6, hd⟩ := wt_lt_o hd
      refine hr_new (pc := 14) (ci := 4) (fs := [.null, .null, .null, .null, .null, .int 0, .int 0, .int 0]) hx hb hts hown hK hW hS hA rfl tyX6 tyX6_ok (by decide +kernel) q831 q832 q90 eτ6 (Nat.le_of_ble_eq_true rfl) (Nat.le_of_ble_eq_true rfl) dX5_other_14 (fun H hW hS => ?_)
      refine lv_dup (pc := 17) hx hb dX5_other_17 rfl ?_
      refine lv_iconst (pc := 18) (v := 2) hx hb dX5_other_18 (by decide) ?_
      refine lv_aload_n (pc := 19) hx hb dX5_other_19 rfl (lv_at hl 1 rfl) ?_
      obtain ⟨f7, h8, hd⟩ := wt_bd_o hd
      refine hr_get (pc := 20) hx hb hts hown hK hW (hgI_o h8) hf_3_3 (fun _ h => h) q699 dX5_other_20 ?_
      obtain ⟨w9, hc10, hd⟩ := wt_bd_o hd
      refine kX6_init (pc := 23) hx hb hml hown hts hC hW hS hc10 hl.1 (Nat.le_of_ble_eq_true rfl) ⟨Nat.le_of_ble_eq_true rfl, Nat.le_of_ble_eq_true rfl⟩ ⟨Nat.le_of_ble_eq_true rfl, Nat.le_of_ble_eq_true rfl⟩ q840 dX5_other_23 (fun H locs hW hS => ?_)
      obtain ⟨h11, hd⟩ := wt_ck_o hd
      exact hx_throwW (pc := 26) hx hb hC hno hlocks h11 (Option.some.inj hd) hW hS dX5_other_26 (Nat.le_of_ble_eq_true rfl) (Nat.le_of_ble_eq_true rfl)
theorem kX5_other {p : Program} {l : Launch} {e : Env} {R : Room} {s : State} {m : MethodId} {args : Array Value} {below : List Frame} {meth : Method} {c : Code} {H : Heap} {locs : List Loc} {cells slots : Nat} {Q : State → Prop} {cc : ByteArray} {pc : Nat} {ls : Array Slot} {rest : List Value} {nL : Nat} {own : String} {index : Nat} {G : HG} {A : Nat → Prop} {τ : HP} {o_ : Nat} {a0 : Int32} {a1 : Int32} {out_ : (Int32 × HP) ⊕ (Nat × Nat × HP)} (hfl : l.stackTraces = false) (hx : p.tables.exec = Jvm.exec) (hb : c.code = cc) (hml : c.maxLocals = nL) (hown : s.vm.findClass own = some m.cls) (hts : ∀ w ∈ lw_all, w.before args s = true) (hC : Hcx G A s) (hW : Hw G A τ H) (hS : va_S A s.heap H locs) (hrc : hcl τ o_ = some 3) (hd : eX5_other τ o_ a0 a1 = some out_) (hsz : ls.size = nL) (hrm : (rest.map fun v => v.category).sum ≤ 8) (hR : 7 ≤ R.frames ∧ 169 ≤ R.locals) (hcs : (cells + 2) ≤ R.cells ∧ (slots + 16) ≤ R.slots) (hlk : Cond.methodLink own index yX5_other ∈ lw_all) (hdg : decode cc pc = .ok (.invokevirtual index, 3)) (kx : ∀ x_ : Nat × Nat × HP, Sum.inr x_ = out_ → ∀ (E : String) (ce : Cell) (q9 : Addr) (H1 : Heap) (locs1 : List Loc), hXb G A E q9 x_ H1 → va_S A s.heap H1 locs1 → H1[q9]? = some ce → ce.vm = .none → s.vm.findClass E = some ce.cls → vx_W p l e R s m args below meth c H1 locs1 (cells + 2) (slots + 16) Q (F0 m pc ls rest) q9) (kk : ∀ o_1 : Int32 × HP, Sum.inl o_1 = out_ → ∀ (H1 : Heap) (locs1 : List Loc), Hw G A o_1.2 H1 → va_S A s.heap H1 locs1 → W p l e R s m args below meth c H1 locs1 (cells + 2) (slots + 16) Q (F0 m (pc + 3) ls (.int o_1.1 :: rest))) : W p l e R s m args below meth c H locs cells slots Q (F0 m pc ls (.int a1 :: .int a0 :: .ref o_ :: rest)) := by
  refine vx_calli (vx_runV (As := [.int a0, .int a1]) (rest := rest) ⟨hx, hb, hml, hown, hts⟩ (wX5_other l hfl hd) (cwV 2 hts (lw_V hlk q867 qs10 q89 q868) rfl rfl rfl (by decide +kernel) hR) (hr_preV hC hW hS hrc rfl rfl) rfl rfl hsz rfl (lv_room hrm) hdg hcs) hS (fun _ _ h => h) (fun _ h => h) (fun _ _ h => h) (fun E ce q9 u t H1 locs1 ht hvm hp hB hz hk hS1 hce hvn hfc => ?_) (fun r u t H1 locs1 ht hvm hp hB hz hk hS1 => ?_)
  · rw [ht] at hB
    exact kx u hp E ce q9 H1 locs1 hB hS1 hce hvn hfc
  · have hW1 : Hw G A u t.heap := hB
    rw [ht] at hW1
    exact kk (r, u) hp H1 locs1 hW1 hS1
noncomputable def eX5_clause (lit_ : Nat → Nat) (τ : HP) (o_ : Nat) (a0 : Nat) : Option ((HP) ⊕ (Nat × Nat × HP)) :=
  wt_ck (hcl τ o_ = some 3) <| wt_bd (eX5_word τ o_) fun w2 => wt_ck (hcl w2.2 w2.1 = some 15) <| wt_bd (eJ9_hashCode w2.2 w2.1) fun w5 => wt_bd (if w5.1 = (-1354814997 : Int32) then (wt_ck (hcl w5.2 w2.1 = some 15) <| wt_bd (eJ9_equals w5.2 w2.1 (lit_ 100)) fun w13 => if w13 = 0 then (some (-1 : Int32)) else (some (6 : Int32))) else (if w5.1 = (3208383 : Int32) then (wt_ck (hcl w5.2 w2.1 = some 15) <| wt_bd (eJ9_equals w5.2 w2.1 (lit_ 90)) fun w18 => if w18 = 0 then (some (-1 : Int32)) else (some (1 : Int32))) else (if w5.1 = (3433489 : Int32) then (wt_ck (hcl w5.2 w2.1 = some 15) <| wt_bd (eJ9_equals w5.2 w2.1 (lit_ 94)) fun w23 => if w23 = 0 then (some (-1 : Int32)) else (some (3 : Int32))) else (if w5.1 = (3529140 : Int32) then (wt_ck (hcl w5.2 w2.1 = some 15) <| wt_bd (eJ9_equals w5.2 w2.1 (lit_ 88)) fun w28 => if w28 = 0 then (some (-1 : Int32)) else (some (0 : Int32))) else (if w5.1 = (3552391 : Int32) then (wt_ck (hcl w5.2 w2.1 = some 15) <| wt_bd (eJ9_equals w5.2 w2.1 (lit_ 96)) fun w33 => if w33 = 0 then (some (-1 : Int32)) else (some (4 : Int32))) else (if w5.1 = (3642015 : Int32) then (wt_ck (hcl w5.2 w2.1 = some 15) <| wt_bd (eJ9_equals w5.2 w2.1 (lit_ 92)) fun w38 => if w38 = 0 then (some (-1 : Int32)) else (some (2 : Int32))) else (if w5.1 = (92903288 : Int32) then (wt_ck (hcl w5.2 w2.1 = some 15) <| wt_bd (eJ9_equals w5.2 w2.1 (lit_ 98)) fun w43 => if w43 = 0 then (some (-1 : Int32)) else (some (5 : Int32))) else (some (-1 : Int32))))))))) fun w7 => wt_bd (if w7 = (0 : Int32) then (some (.inl ())) else (if w7 = (1 : Int32) then (some (.inl ())) else (if w7 = (2 : Int32) then (some (.inl ())) else (if w7 = (3 : Int32) then (some (.inl ())) else (if w7 = (4 : Int32) then (some (.inl ())) else (if w7 = (5 : Int32) then (some (.inl ())) else (if w7 = (6 : Int32) then (some (.inl ())) else (wt_ck (hcl w5.2 o_ = some 3) <| wt_bd (eX5_wrong w5.2 o_) fun w58 => wt_ck (hcl w58.2 w58.1 = some 4) <| some (.inr (.inr (4, w58.1, w58.2))))))))))) fun w46 => wt_rs w46 (fun w46 => wt_bd (hgI w5.2 a0 [1] 7) fun f61 => if f61 = (24 : Int32) then (wt_lt (hnew w5.2 (.inr (4, [.null, .null, .null, .null, .null, .int 0, .int 0, .int 0]))) fun τ189 => wt_bd (hgI τ189 o_ [3] 2) fun f190 => wt_bd (eX6_init τ189 w5.2.2 (3 : Int32) f190) fun w192 => wt_ck (hcl w192 w5.2.2 = some 4) <| some (.inr (4, w5.2.2, w192))) else (wt_bd (hgI w5.2 o_ [3] 2) fun f64 => wt_ck (hcl w5.2 w2.1 = some 15) <| wt_bd (eJ9_length w5.2 w2.1) fun w67 => wt_bd (hp w5.2 o_ [3] 2 (.int ((f64 + w67)))) fun τ69 => wt_ck (hcl τ69 w2.1 = some 15) <| wt_bd (eJ9_hashCode τ69 w2.1) fun w72 => wt_bd (if w72.1 = (-1354814997 : Int32) then (wt_ck (hcl w72.2 w2.1 = some 15) <| wt_bd (eJ9_equals w72.2 w2.1 (lit_ 100)) fun w80 => if w80 = 0 then (some (-1 : Int32)) else (some (2 : Int32))) else (if w72.1 = (3208383 : Int32) then (wt_ck (hcl w72.2 w2.1 = some 15) <| wt_bd (eJ9_equals w72.2 w2.1 (lit_ 90)) fun w85 => if w85 = 0 then (some (-1 : Int32)) else (some (1 : Int32))) else (if w72.1 = (3433489 : Int32) then (wt_ck (hcl w72.2 w2.1 = some 15) <| wt_bd (eJ9_equals w72.2 w2.1 (lit_ 94)) fun w90 => if w90 = 0 then (some (-1 : Int32)) else (some (5 : Int32))) else (if w72.1 = (3529140 : Int32) then (wt_ck (hcl w72.2 w2.1 = some 15) <| wt_bd (eJ9_equals w72.2 w2.1 (lit_ 88)) fun w95 => if w95 = 0 then (some (-1 : Int32)) else (some (0 : Int32))) else (if w72.1 = (3642015 : Int32) then (wt_ck (hcl w72.2 w2.1 = some 15) <| wt_bd (eJ9_equals w72.2 w2.1 (lit_ 92)) fun w100 => if w100 = 0 then (some (-1 : Int32)) else (some (4 : Int32))) else (if w72.1 = (92903288 : Int32) then (wt_ck (hcl w72.2 w2.1 = some 15) <| wt_bd (eJ9_equals w72.2 w2.1 (lit_ 98)) fun w105 => if w105 = 0 then (some (-1 : Int32)) else (some (3 : Int32))) else (some (-1 : Int32)))))))) fun w74 => if w74 = (0 : Int32) then (wt_ck (hcl w72.2 o_ = some 3) <| wt_bd (eX5_number w72.2 o_ (0 : Int32) (7 : Int32)) fun w110 => wt_rs w110 (fun o112 => wt_ck (hcl o112.2 o_ = some 3) <| wt_bd (eX5_number o112.2 o_ (0 : Int32) (9 : Int32)) fun w114 => wt_rs w114 (fun o116 => wt_bd (hgA o116.2 a0 [1] 0) fun ad117 => wt_ck (hcl o116.2 o_ = some 3) <| wt_bd (eX5_number o116.2 o_ (0 : Int32) (200 : Int32)) fun w120 => wt_rs w120 (fun o122 => wt_bd (haI o122.2 ad117 0) fun z123 => wt_ck (vp_in (((10 : Int32) * o112.1) + o116.1) z123.1) <| wt_lt (hst o122.2 ad117 (.inl (0, z123.1, .inl (upd z123.2 (((10 : Int32) * o112.1) + o116.1).toNatClampNeg o122.1)))) fun τ126 => some (.inl (τ126))) (fun x_ => some (.inr x_))) (fun x_ => some (.inr x_))) (fun x_ => some (.inr x_))) else (if w74 = (1 : Int32) then (wt_ck (hcl w72.2 o_ = some 3) <| wt_bd (eX5_number w72.2 o_ (0 : Int32) (9 : Int32)) fun w129 => wt_rs w129 (fun o131 => wt_bd (hgA o131.2 a0 [1] 1) fun ad132 => wt_ck (hcl o131.2 o_ = some 3) <| wt_bd (eX5_number o131.2 o_ (0 : Int32) (16 : Int32)) fun w135 => wt_rs w135 (fun o137 => wt_bd (haI o137.2 ad132 0) fun z138 => wt_ck (vp_in o131.1 z138.1) <| wt_lt (hst o137.2 ad132 (.inl (0, z138.1, .inl (upd z138.2 o131.1.toNatClampNeg o137.1)))) fun τ141 => some (.inl (τ141))) (fun x_ => some (.inr x_))) (fun x_ => some (.inr x_))) else (if w74 = (2 : Int32) then (wt_ck (hcl w72.2 o_ = some 3) <| wt_bd (eX5_number w72.2 o_ (0 : Int32) (9 : Int32)) fun w144 => wt_rs w144 (fun o146 => wt_bd (hgA o146.2 a0 [1] 2) fun ad147 => wt_ck (hcl o146.2 o_ = some 3) <| wt_bd (eX5_number o146.2 o_ (0 : Int32) (20 : Int32)) fun w150 => wt_rs w150 (fun o152 => wt_bd (haI o152.2 ad147 0) fun z153 => wt_ck (vp_in o146.1 z153.1) <| wt_lt (hst o152.2 ad147 (.inl (0, z153.1, .inl (upd z153.2 o146.1.toNatClampNeg o152.1)))) fun τ156 => some (.inl (τ156))) (fun x_ => some (.inr x_))) (fun x_ => some (.inr x_))) else (if w74 = (3 : Int32) then (wt_ck (hcl w72.2 o_ = some 3) <| wt_bd (eX5_number w72.2 o_ (0 : Int32) (9 : Int32)) fun w159 => wt_rs w159 (fun o161 => wt_ck (hcl o161.2 o_ = some 3) <| wt_bd (eX5_other o161.2 o_ o161.1 (10 : Int32)) fun w163 => wt_rs w163 (fun o165 => wt_ck (hcl o165.2 a0 = some 1) <| wt_bd (eX2_joins o165.2 a0 o161.1 o165.1) fun w167 => some (.inl w167)) (fun x_ => some (.inr x_))) (fun x_ => some (.inr x_))) else (if w74 = (4 : Int32) then (wt_ck (hcl w72.2 o_ = some 3) <| wt_bd (eX5_number w72.2 o_ (0 : Int32) (16 : Int32)) fun w171 => wt_rs w171 (fun o173 => wt_bd (hp o173.2 a0 [1] 4 (.int o173.1)) fun τ174 => some (.inl (τ174))) (fun x_ => some (.inr x_))) else (if w74 = (5 : Int32) then (wt_ck (hcl w72.2 o_ = some 3) <| wt_bd (eX5_number w72.2 o_ (0 : Int32) (8 : Int32)) fun w178 => wt_rs w178 (fun o180 => wt_bd (hp o180.2 a0 [1] 5 (.int o180.1)) fun τ181 => some (.inl (τ181))) (fun x_ => some (.inr x_))) else (wt_ck (hcl w72.2 o_ = some 3) <| wt_bd (eX5_number w72.2 o_ (1 : Int32) (15 : Int32)) fun w184 => wt_rs w184 (fun o186 => wt_bd (hp o186.2 a0 [1] 6 (.int o186.1)) fun τ187 => some (.inl (τ187))) (fun x_ => some (.inr x_)))))))))) (fun z_ => some z_)
set_option maxHeartbeats 4000000 in
theorem wX5_clause (l : Launch) (hfl : l.stackTraces = false) {G : HG} {A : Nat → Prop} {τ : HP} {o_ : Nat} {a0 : Nat} {out_ : (HP) ⊕ (Nat × Nat × HP)} (hd : eX5_clause G.2.2 τ o_ a0 = some out_) : vx_Met l yX5_clause (ws_ yX5_clause cX5_clause 7 none) ({ frames := 7, cells := 7, slots := 64, locals := 169 }) (hPc G A τ [.ref o_, .ref a0]) (hXv G A (fun u => Sum.inl u = out_)) (hXX G A out_) 7 64 A := by
  refine vx_ofW (cc := cX5_clause) (maxL := 7) (ret := none) (by decide) rfl ?_
  intro p_ e_ s_ m_ args_ below_ meth_ c_ s₁_ B hml hno hv
  obtain ⟨rfl, hW, hC⟩ := hv
  have hx := B.exec
  have hb := B.bytes
  have hr := B.returns
  have hts := atoms_spec (ws := (ws_ yX5_clause cX5_clause 7 none)) B.pre
  have hts : ∀ w ∈ lw_all, w.before _ s_ = true := fun w h => hts w (List.mem_cons_of_mem _ h)
  have hown : s_.vm.findClass RX5 = some m_.cls := findClass_of_methodNamed B.named
  have hlocks := B.notSynchronized
  have hK := hC.1
  have hT := hC.2.1
  have hL := hC.2.2.1
  have hZ := hC.2.2.2.2.1
  have hA := hC.2.2.2.2.2
  have hS : va_S A s_.heap s_.heap [] := va_S.rf
  have hl := lv_entry ([.ref o_, .ref a0]) (n := 7) (Nat.le_of_ble_eq_true rfl)
  rw [lg_entry_eq]
  generalize (lg_sl ([.ref o_, .ref a0]) ++ List.replicate (7 - (lg_sl ([.ref o_, .ref a0])).length) Slot.unset).toArray = ls at hl ⊢
  have hl : lv_has ls 7 [(0, .ref o_), (1, .ref a0)] := hl
  unfold eX5_clause at hd
  refine lv_aload_n (pc := 0) hx hb dX5_clause_0 rfl (lv_at hl 0 rfl) ?_
  obtain ⟨h1, hd⟩ := wt_ck_o hd
  obtain ⟨w2, hc3, hd⟩ := wt_bd_o hd
  refine kX5_word (pc := 1) hx hb hml hown hts hC hW hS h1 hc3 hl.1 (Nat.le_of_ble_eq_true rfl) ⟨Nat.le_of_ble_eq_true rfl, Nat.le_of_ble_eq_true rfl⟩ ⟨(Nat.le_of_ble_eq_true rfl), (Nat.le_of_ble_eq_true rfl)⟩ q723 dX5_clause_1 (fun H locs hW hS => ?_)
  refine lv_astore_n (pc := 4) (lv' := [(2, .ref w2.1), (0, .ref o_), (1, .ref a0)]) hx hb dX5_clause_4 rfl hl (by decide) rfl (fun ls hl => ?_)
  refine lv_aload_n (pc := 5) hx hb dX5_clause_5 rfl (lv_at hl 0 rfl) ?_
  refine lv_astore_n (pc := 6) (lv' := [(3, .ref w2.1), (2, .ref w2.1), (0, .ref o_), (1, .ref a0)]) hx hb dX5_clause_6 rfl hl (by decide) rfl (fun ls hl => ?_)
  refine lv_iconst (pc := 7) (v := -1) hx hb dX5_clause_7 (by decide) ?_
  refine lv_istore (pc := 8) (lv' := [(4, .int (-1 : Int32)), (3, .ref w2.1), (2, .ref w2.1), (0, .ref o_), (1, .ref a0)]) hx hb dX5_clause_8 hl (by decide) rfl (fun ls hl => ?_)
  refine lv_aload_n (pc := 10) hx hb dX5_clause_10 rfl (lv_at hl 1 rfl) ?_
  obtain ⟨h4, hd⟩ := wt_ck_o hd
  obtain ⟨w5, hc6, hd⟩ := wt_bd_o hd
  refine kJ9_hashCode (pc := 11) hx hb hml hown hts hC hW hS h4 hc6 hl.1 (Nat.le_of_ble_eq_true rfl) ⟨Nat.le_of_ble_eq_true rfl, Nat.le_of_ble_eq_true rfl⟩ ⟨Nat.le_of_ble_eq_true rfl, Nat.le_of_ble_eq_true rfl⟩ q751 dX5_clause_11 (fun H locs hW hS => ?_)
  obtain ⟨w7, hj8, hq9⟩ := wt_bd_o hd
  have hX10 : ∀ w7_ : Int32, w7_ = w7 → ∀ (H : Heap) (locs : List Loc) (ls : Array Slot), Hw G A w5.2 H → va_S A s_.heap H locs → lv_has ls 7 [(0, .ref o_), (1, .ref a0), (2, .ref w2.1), (4, .int w7_)] → W p_ l e_ (headSpec (ws_ yX5_clause cX5_clause 7 none) ({ frames := 7, cells := 7, slots := 64, locals := 169 })).room s_ m_ ([.ref o_, .ref a0] : List Value).toArray below_ meth_ c_ H locs 4 40 (vx_MQ below_ (hXv G A (fun u => Sum.inl u = out_)) (hXX G A out_) ([.ref o_, .ref a0] : List Value).toArray s_ 7 64 A) (F0 m_ 183 ls []) := by
    intro w7_ hw_
    have hd := hq9
    subst hw_
    clear hj8 hq9
    intro H locs ls hW hS hl
    refine lv_iload (pc := 183) hx hb dX5_clause_183 (lv_at hl 3 rfl) ?_
    obtain ⟨w46, hj47, hq48⟩ := wt_bd_o hd
    have hX49 : ∀ w46_ : Unit, (Sum.inl w46_ : (Unit) ⊕ _) = w46 → ∀ (H : Heap) (locs : List Loc) (ls : Array Slot), Hw G A w5.2 H → va_S A s_.heap H locs → lv_has ls 7 [(0, .ref o_), (1, .ref a0), (2, .ref w2.1)] → W p_ l e_ (headSpec (ws_ yX5_clause cX5_clause 7 none) ({ frames := 7, cells := 7, slots := 64, locals := 169 })).room s_ m_ ([.ref o_, .ref a0] : List Value).toArray below_ meth_ c_ H locs 4 40 (vx_MQ below_ (hXv G A (fun u => Sum.inl u = out_)) (hXX G A out_) ([.ref o_, .ref a0] : List Value).toArray s_ 7 64 A) (F0 m_ 228 ls []) := by
      intro w46_ hw_
      have hd := wt_rs_l hw_ hq48
      clear hj47 hq48
      intro H locs ls hW hS hl
      refine lv_goto (pc := 228) (tgt := 236) hx hb dX5_clause_228 (by decide) ?_
      refine lv_aload_n (pc := 236) hx hb dX5_clause_236 rfl (lv_at hl 1 rfl) ?_
      obtain ⟨f61, h62, hd⟩ := wt_bd_o hd
      refine hr_getN (pc := 237) hx hb hts hown hK hT hW (hgI_o h62) hf_1_7 (fun _ h => h) q143 dX5_clause_237 ?_
      refine lv_bipush (pc := 240) (v := 24) hx hb dX5_clause_240 (by decide) ?_
      refine lv_icmp_ne (pc := 242) (tgt := 258) hx hb dX5_clause_242 (by decide) (fun c63 => ?_) (fun c63 => ?_)
      · have hd := wt_if hd c63
        refine lv_aload_n (pc := 258) hx hb dX5_clause_258 rfl (lv_at hl 0 rfl) ?_
        refine lv_dup (pc := 259) hx hb dX5_clause_259 rfl ?_
        obtain ⟨f64, h65, hd⟩ := wt_bd_o hd
        refine hr_get (pc := 260) hx hb hts hown hK hW (hgI_o h65) hf_3_2 (fun _ h => h) q698 dX5_clause_260 ?_
        refine lv_aload_n (pc := 263) hx hb dX5_clause_263 rfl (lv_at hl 2 rfl) ?_
        obtain ⟨h66, hd⟩ := wt_ck_o hd
        obtain ⟨w67, hc68, hd⟩ := wt_bd_o hd
        refine kJ9_length (pc := 264) hx hb hml hown hts hC hW hS h66 hc68 hl.1 (Nat.le_of_ble_eq_true rfl) ⟨Nat.le_of_ble_eq_true rfl, Nat.le_of_ble_eq_true rfl⟩ ⟨Nat.le_of_ble_eq_true rfl, Nat.le_of_ble_eq_true rfl⟩ q859 dX5_clause_264 (fun H locs hW hS => ?_)
        refine lv_iadd (pc := 267) hx hb dX5_clause_267 ?_
        obtain ⟨τ69, h70, hd⟩ := wt_bd_o hd
        refine hr_put (pc := 268) (ty := .int) hx hb hts hown hK hW hS h70 hf_3_2 (by decide +kernel) rfl rfl (fun _ h => h) q698 dX5_clause_268 (fun H locs hW hS => ?_)
        refine lv_aload_n (pc := 271) hx hb dX5_clause_271 rfl (lv_at hl 2 rfl) ?_
        refine lv_astore_n (pc := 272) (lv' := [(3, .ref w2.1), (0, .ref o_), (1, .ref a0), (2, .ref w2.1)]) hx hb dX5_clause_272 rfl hl (by decide) rfl (fun ls hl => ?_)
        refine lv_iconst (pc := 273) (v := -1) hx hb dX5_clause_273 (by decide) ?_
        refine lv_istore (pc := 274) (lv' := [(4, .int (-1 : Int32)), (3, .ref w2.1), (0, .ref o_), (1, .ref a0), (2, .ref w2.1)]) hx hb dX5_clause_274 hl (by decide) rfl (fun ls hl => ?_)
        refine lv_aload_n (pc := 276) hx hb dX5_clause_276 rfl (lv_at hl 1 rfl) ?_
        obtain ⟨h71, hd⟩ := wt_ck_o hd
        obtain ⟨w72, hc73, hd⟩ := wt_bd_o hd
        refine kJ9_hashCode (pc := 277) hx hb hml hown hts hC hW hS h71 hc73 hl.1 (Nat.le_of_ble_eq_true rfl) ⟨Nat.le_of_ble_eq_true rfl, Nat.le_of_ble_eq_true rfl⟩ ⟨Nat.le_of_ble_eq_true rfl, Nat.le_of_ble_eq_true rfl⟩ q751 dX5_clause_277 (fun H locs hW hS => ?_)
        obtain ⟨w74, hj75, hq76⟩ := wt_bd_o hd
        have hX77 : ∀ w74_ : Int32, w74_ = w74 → ∀ (H : Heap) (locs : List Loc) (ls : Array Slot), Hw G A w72.2 H → va_S A s_.heap H locs → lv_has ls 7 [(0, .ref o_), (1, .ref a0), (4, .int w74_)] → W p_ l e_ (headSpec (ws_ yX5_clause cX5_clause 7 none) ({ frames := 7, cells := 7, slots := 64, locals := 169 })).room s_ m_ ([.ref o_, .ref a0] : List Value).toArray below_ meth_ c_ H locs 4 40 (vx_MQ below_ (hXv G A (fun u => Sum.inl u = out_)) (hXX G A out_) ([.ref o_, .ref a0] : List Value).toArray s_ 7 64 A) (F0 m_ 427 ls []) := by
          intro w74_ hw_
          have hd := hq76
          subst hw_
          clear hj75 hq76
          intro H locs ls hW hS hl
          refine lv_iload (pc := 427) hx hb dX5_clause_427 (lv_at hl 2 rfl) ?_
          by_cases c108 : w74_ = (0 : Int32)
          · have hd := wt_it hd c108
            refine lv_tableIn (pc := 429) (tgt := 468) (off := 39) hx hb dX5_clause_429 (by rw [c108]; decide) (by rw [c108]; decide) (by rw [c108]; rfl) (by decide) ?_
            refine lv_aload_n (pc := 468) hx hb dX5_clause_468 rfl (lv_at hl 0 rfl) ?_
            refine lv_iconst (pc := 469) (v := 0) hx hb dX5_clause_469 (by decide) ?_
            refine lv_bipush (pc := 470) (v := 7) hx hb dX5_clause_470 (by decide) ?_
            obtain ⟨h109, hd⟩ := wt_ck_o hd
            obtain ⟨w110, hc111, hd⟩ := wt_bd_o hd
            refine kX5_number (pc := 472) hfl hx hb hml hown hts hC hW hS h109 hc111 hl.1 (Nat.le_of_ble_eq_true rfl) ⟨Nat.le_of_ble_eq_true rfl, Nat.le_of_ble_eq_true rfl⟩ ⟨(Nat.le_of_ble_eq_true rfl), (Nat.le_of_ble_eq_true rfl)⟩ q860 dX5_clause_472 (fun x_ hx_ E_ ce_ q9_ H locs hXB hS hce hvn hfc => ?_) (fun o112 ho_ H locs hW hS => ?_)
            · have hd := wt_rs_r hx_ hd
              exact hx_out (fun z hz => (hno z hz).elim) hlocks hce hvn hfc (Option.some.inj hd) hXB hS (Nat.le_of_ble_eq_true rfl) (Nat.le_of_ble_eq_true rfl)
            · have hd := wt_rs_l ho_ hd
              refine lv_istore (pc := 475) (lv' := [(5, .int o112.1), (0, .ref o_), (1, .ref a0), (4, .int w74_)]) hx hb dX5_clause_475 hl (by decide) rfl (fun ls hl => ?_)
              refine lv_aload_n (pc := 477) hx hb dX5_clause_477 rfl (lv_at hl 1 rfl) ?_
              refine lv_iconst (pc := 478) (v := 0) hx hb dX5_clause_478 (by decide) ?_
              refine lv_bipush (pc := 479) (v := 9) hx hb dX5_clause_479 (by decide) ?_
              obtain ⟨h113, hd⟩ := wt_ck_o hd
              obtain ⟨w114, hc115, hd⟩ := wt_bd_o hd
              refine kX5_number (pc := 481) hfl hx hb hml hown hts hC hW hS h113 hc115 hl.1 (Nat.le_of_ble_eq_true rfl) ⟨Nat.le_of_ble_eq_true rfl, Nat.le_of_ble_eq_true rfl⟩ ⟨(Nat.le_of_ble_eq_true rfl), (Nat.le_of_ble_eq_true rfl)⟩ q860 dX5_clause_481 (fun x_ hx_ E_ ce_ q9_ H locs hXB hS hce hvn hfc => ?_) (fun o116 ho_ H locs hW hS => ?_)
              · have hd := wt_rs_r hx_ hd
                exact hx_out (fun z hz => (hno z hz).elim) hlocks hce hvn hfc (Option.some.inj hd) hXB hS (Nat.le_of_ble_eq_true rfl) (Nat.le_of_ble_eq_true rfl)
              · have hd := wt_rs_l ho_ hd
                refine lv_istore (pc := 484) (lv' := [(6, .int o116.1), (5, .int o112.1), (0, .ref o_), (1, .ref a0), (4, .int w74_)]) hx hb dX5_clause_484 hl (by decide) rfl (fun ls hl => ?_)
                refine lv_aload_n (pc := 486) hx hb dX5_clause_486 rfl (lv_at hl 3 rfl) ?_
                obtain ⟨ad117, h118, hd⟩ := wt_bd_o hd
                refine hr_getN (pc := 487) hx hb hts hown hK hT hW (hgA_o h118) hf_1_0 (fun _ h => h) q120 dX5_clause_487 ?_
                refine lv_bipush (pc := 490) (v := 10) hx hb dX5_clause_490 (by decide) ?_
                refine lv_iload (pc := 492) hx hb dX5_clause_492 (lv_at hl 1 rfl) ?_
                refine lv_imul (pc := 494) hx hb dX5_clause_494 ?_
                refine lv_iload (pc := 495) hx hb dX5_clause_495 (lv_at hl 0 rfl) ?_
                refine lv_iadd (pc := 497) hx hb dX5_clause_497 ?_
                refine lv_aload_n (pc := 498) hx hb dX5_clause_498 rfl (lv_at hl 2 rfl) ?_
                refine lv_iconst (pc := 499) (v := 0) hx hb dX5_clause_499 (by decide) ?_
                refine lv_sipush (pc := 500) (v := 200) hx hb dX5_clause_500 (by decide) ?_
                obtain ⟨h119, hd⟩ := wt_ck_o hd
                obtain ⟨w120, hc121, hd⟩ := wt_bd_o hd
                refine kX5_number (pc := 503) hfl hx hb hml hown hts hC hW hS h119 hc121 hl.1 (Nat.le_of_ble_eq_true rfl) ⟨Nat.le_of_ble_eq_true rfl, Nat.le_of_ble_eq_true rfl⟩ ⟨(Nat.le_of_ble_eq_true rfl), (Nat.le_of_ble_eq_true rfl)⟩ q860 dX5_clause_503 (fun x_ hx_ E_ ce_ q9_ H locs hXB hS hce hvn hfc => ?_) (fun o122 ho_ H locs hW hS => ?_)
                · have hd := wt_rs_r hx_ hd
                  exact hx_out (fun z hz => (hno z hz).elim) hlocks hce hvn hfc (Option.some.inj hd) hXB hS (Nat.le_of_ble_eq_true rfl) (Nat.le_of_ble_eq_true rfl)
                · have hd := wt_rs_l ho_ hd
                  obtain ⟨z123, h124, hd⟩ := wt_bd_o hd
                  obtain ⟨h125, hd⟩ := wt_ck_o hd
                  obtain ⟨τ126, eτ126, hd⟩ := wt_lt_o hd
                  refine hr_iast (pc := 506) hx hb hK hW hS h124 h125 eτ126 dX5_clause_506 (fun H locs hW hS => ?_)
                  refine vx_ret ?_
                  exact hx_vret hx hb hr hlocks (Option.some.inj hd) hW hS dX5_clause_507 (Nat.le_of_ble_eq_true rfl) (Nat.le_of_ble_eq_true rfl)
          have hd := wt_if hd c108
          by_cases c127 : w74_ = (1 : Int32)
          · have hd := wt_it hd c127
            refine lv_tableIn (pc := 429) (tgt := 508) (off := 79) hx hb dX5_clause_429 (by rw [c127]; decide) (by rw [c127]; decide) (by rw [c127]; rfl) (by decide) ?_
            refine lv_aload_n (pc := 508) hx hb dX5_clause_508 rfl (lv_at hl 0 rfl) ?_
            refine lv_iconst (pc := 509) (v := 0) hx hb dX5_clause_509 (by decide) ?_
            refine lv_bipush (pc := 510) (v := 9) hx hb dX5_clause_510 (by decide) ?_
            obtain ⟨h128, hd⟩ := wt_ck_o hd
            obtain ⟨w129, hc130, hd⟩ := wt_bd_o hd
            refine kX5_number (pc := 512) hfl hx hb hml hown hts hC hW hS h128 hc130 hl.1 (Nat.le_of_ble_eq_true rfl) ⟨Nat.le_of_ble_eq_true rfl, Nat.le_of_ble_eq_true rfl⟩ ⟨(Nat.le_of_ble_eq_true rfl), (Nat.le_of_ble_eq_true rfl)⟩ q860 dX5_clause_512 (fun x_ hx_ E_ ce_ q9_ H locs hXB hS hce hvn hfc => ?_) (fun o131 ho_ H locs hW hS => ?_)
            · have hd := wt_rs_r hx_ hd
              exact hx_out (fun z hz => (hno z hz).elim) hlocks hce hvn hfc (Option.some.inj hd) hXB hS (Nat.le_of_ble_eq_true rfl) (Nat.le_of_ble_eq_true rfl)
            · have hd := wt_rs_l ho_ hd
              refine lv_istore (pc := 515) (lv' := [(5, .int o131.1), (0, .ref o_), (1, .ref a0), (4, .int w74_)]) hx hb dX5_clause_515 hl (by decide) rfl (fun ls hl => ?_)
              refine lv_aload_n (pc := 517) hx hb dX5_clause_517 rfl (lv_at hl 2 rfl) ?_
              obtain ⟨ad132, h133, hd⟩ := wt_bd_o hd
              refine hr_getN (pc := 518) hx hb hts hown hK hT hW (hgA_o h133) hf_1_1 (fun _ h => h) q124 dX5_clause_518 ?_
              refine lv_iload (pc := 521) hx hb dX5_clause_521 (lv_at hl 0 rfl) ?_
              refine lv_aload_n (pc := 523) hx hb dX5_clause_523 rfl (lv_at hl 1 rfl) ?_
              refine lv_iconst (pc := 524) (v := 0) hx hb dX5_clause_524 (by decide) ?_
              refine lv_bipush (pc := 525) (v := 16) hx hb dX5_clause_525 (by decide) ?_
              obtain ⟨h134, hd⟩ := wt_ck_o hd
              obtain ⟨w135, hc136, hd⟩ := wt_bd_o hd
              refine kX5_number (pc := 527) hfl hx hb hml hown hts hC hW hS h134 hc136 hl.1 (Nat.le_of_ble_eq_true rfl) ⟨Nat.le_of_ble_eq_true rfl, Nat.le_of_ble_eq_true rfl⟩ ⟨(Nat.le_of_ble_eq_true rfl), (Nat.le_of_ble_eq_true rfl)⟩ q860 dX5_clause_527 (fun x_ hx_ E_ ce_ q9_ H locs hXB hS hce hvn hfc => ?_) (fun o137 ho_ H locs hW hS => ?_)
              · have hd := wt_rs_r hx_ hd
                exact hx_out (fun z hz => (hno z hz).elim) hlocks hce hvn hfc (Option.some.inj hd) hXB hS (Nat.le_of_ble_eq_true rfl) (Nat.le_of_ble_eq_true rfl)
              · have hd := wt_rs_l ho_ hd
                obtain ⟨z138, h139, hd⟩ := wt_bd_o hd
                obtain ⟨h140, hd⟩ := wt_ck_o hd
                obtain ⟨τ141, eτ141, hd⟩ := wt_lt_o hd
                refine hr_iast (pc := 530) hx hb hK hW hS h139 h140 eτ141 dX5_clause_530 (fun H locs hW hS => ?_)
                refine vx_ret ?_
                exact hx_vret hx hb hr hlocks (Option.some.inj hd) hW hS dX5_clause_531 (Nat.le_of_ble_eq_true rfl) (Nat.le_of_ble_eq_true rfl)
          have hd := wt_if hd c127
          by_cases c142 : w74_ = (2 : Int32)
          · have hd := wt_it hd c142
            refine lv_tableIn (pc := 429) (tgt := 532) (off := 103) hx hb dX5_clause_429 (by rw [c142]; decide) (by rw [c142]; decide) (by rw [c142]; rfl) (by decide) ?_
            refine lv_aload_n (pc := 532) hx hb dX5_clause_532 rfl (lv_at hl 0 rfl) ?_
            refine lv_iconst (pc := 533) (v := 0) hx hb dX5_clause_533 (by decide) ?_
            refine lv_bipush (pc := 534) (v := 9) hx hb dX5_clause_534 (by decide) ?_
            obtain ⟨h143, hd⟩ := wt_ck_o hd
            obtain ⟨w144, hc145, hd⟩ := wt_bd_o hd
            refine kX5_number (pc := 536) hfl hx hb hml hown hts hC hW hS h143 hc145 hl.1 (Nat.le_of_ble_eq_true rfl) ⟨Nat.le_of_ble_eq_true rfl, Nat.le_of_ble_eq_true rfl⟩ ⟨(Nat.le_of_ble_eq_true rfl), (Nat.le_of_ble_eq_true rfl)⟩ q860 dX5_clause_536 (fun x_ hx_ E_ ce_ q9_ H locs hXB hS hce hvn hfc => ?_) (fun o146 ho_ H locs hW hS => ?_)
            · have hd := wt_rs_r hx_ hd
              exact hx_out (fun z hz => (hno z hz).elim) hlocks hce hvn hfc (Option.some.inj hd) hXB hS (Nat.le_of_ble_eq_true rfl) (Nat.le_of_ble_eq_true rfl)
            · have hd := wt_rs_l ho_ hd
              refine lv_istore (pc := 539) (lv' := [(5, .int o146.1), (0, .ref o_), (1, .ref a0), (4, .int w74_)]) hx hb dX5_clause_539 hl (by decide) rfl (fun ls hl => ?_)
              refine lv_aload_n (pc := 541) hx hb dX5_clause_541 rfl (lv_at hl 2 rfl) ?_
              obtain ⟨ad147, h148, hd⟩ := wt_bd_o hd
              refine hr_getN (pc := 542) hx hb hts hown hK hT hW (hgA_o h148) hf_1_2 (fun _ h => h) q128 dX5_clause_542 ?_
              refine lv_iload (pc := 545) hx hb dX5_clause_545 (lv_at hl 0 rfl) ?_
              refine lv_aload_n (pc := 547) hx hb dX5_clause_547 rfl (lv_at hl 1 rfl) ?_
              refine lv_iconst (pc := 548) (v := 0) hx hb dX5_clause_548 (by decide) ?_
              refine lv_bipush (pc := 549) (v := 20) hx hb dX5_clause_549 (by decide) ?_
              obtain ⟨h149, hd⟩ := wt_ck_o hd
              obtain ⟨w150, hc151, hd⟩ := wt_bd_o hd
              refine kX5_number (pc := 551) hfl hx hb hml hown hts hC hW hS h149 hc151 hl.1 (Nat.le_of_ble_eq_true rfl) ⟨Nat.le_of_ble_eq_true rfl, Nat.le_of_ble_eq_true rfl⟩ ⟨(Nat.le_of_ble_eq_true rfl), (Nat.le_of_ble_eq_true rfl)⟩ q860 dX5_clause_551 (fun x_ hx_ E_ ce_ q9_ H locs hXB hS hce hvn hfc => ?_) (fun o152 ho_ H locs hW hS => ?_)
              · have hd := wt_rs_r hx_ hd
                exact hx_out (fun z hz => (hno z hz).elim) hlocks hce hvn hfc (Option.some.inj hd) hXB hS (Nat.le_of_ble_eq_true rfl) (Nat.le_of_ble_eq_true rfl)
              · have hd := wt_rs_l ho_ hd
                obtain ⟨z153, h154, hd⟩ := wt_bd_o hd
                obtain ⟨h155, hd⟩ := wt_ck_o hd
                obtain ⟨τ156, eτ156, hd⟩ := wt_lt_o hd
                refine hr_iast (pc := 554) hx hb hK hW hS h154 h155 eτ156 dX5_clause_554 (fun H locs hW hS => ?_)
                refine vx_ret ?_
                exact hx_vret hx hb hr hlocks (Option.some.inj hd) hW hS dX5_clause_555 (Nat.le_of_ble_eq_true rfl) (Nat.le_of_ble_eq_true rfl)
          have hd := wt_if hd c142
          by_cases c157 : w74_ = (3 : Int32)
          · have hd := wt_it hd c157
            refine lv_tableIn (pc := 429) (tgt := 556) (off := 127) hx hb dX5_clause_429 (by rw [c157]; decide) (by rw [c157]; decide) (by rw [c157]; rfl) (by decide) ?_
            refine lv_aload_n (pc := 556) hx hb dX5_clause_556 rfl (lv_at hl 0 rfl) ?_
            refine lv_iconst (pc := 557) (v := 0) hx hb dX5_clause_557 (by decide) ?_
            refine lv_bipush (pc := 558) (v := 9) hx hb dX5_clause_558 (by decide) ?_
            obtain ⟨h158, hd⟩ := wt_ck_o hd
            obtain ⟨w159, hc160, hd⟩ := wt_bd_o hd
            refine kX5_number (pc := 560) hfl hx hb hml hown hts hC hW hS h158 hc160 hl.1 (Nat.le_of_ble_eq_true rfl) ⟨Nat.le_of_ble_eq_true rfl, Nat.le_of_ble_eq_true rfl⟩ ⟨(Nat.le_of_ble_eq_true rfl), (Nat.le_of_ble_eq_true rfl)⟩ q860 dX5_clause_560 (fun x_ hx_ E_ ce_ q9_ H locs hXB hS hce hvn hfc => ?_) (fun o161 ho_ H locs hW hS => ?_)
            · have hd := wt_rs_r hx_ hd
              exact hx_out (fun z hz => (hno z hz).elim) hlocks hce hvn hfc (Option.some.inj hd) hXB hS (Nat.le_of_ble_eq_true rfl) (Nat.le_of_ble_eq_true rfl)
            · have hd := wt_rs_l ho_ hd
              refine lv_istore (pc := 563) (lv' := [(5, .int o161.1), (0, .ref o_), (1, .ref a0), (4, .int w74_)]) hx hb dX5_clause_563 hl (by decide) rfl (fun ls hl => ?_)
              refine lv_aload_n (pc := 565) hx hb dX5_clause_565 rfl (lv_at hl 2 rfl) ?_
              refine lv_iload (pc := 566) hx hb dX5_clause_566 (lv_at hl 0 rfl) ?_
              refine lv_aload_n (pc := 568) hx hb dX5_clause_568 rfl (lv_at hl 1 rfl) ?_
              refine lv_iload (pc := 569) hx hb dX5_clause_569 (lv_at hl 0 rfl) ?_
              refine lv_bipush (pc := 571) (v := 10) hx hb dX5_clause_571 (by decide) ?_
              obtain ⟨h162, hd⟩ := wt_ck_o hd
              obtain ⟨w163, hc164, hd⟩ := wt_bd_o hd
              refine kX5_other (pc := 573) hfl hx hb hml hown hts hC hW hS h162 hc164 hl.1 (Nat.le_of_ble_eq_true rfl) ⟨Nat.le_of_ble_eq_true rfl, Nat.le_of_ble_eq_true rfl⟩ ⟨(Nat.le_of_ble_eq_true rfl), (Nat.le_of_ble_eq_true rfl)⟩ q865 dX5_clause_573 (fun x_ hx_ E_ ce_ q9_ H locs hXB hS hce hvn hfc => ?_) (fun o165 ho_ H locs hW hS => ?_)
              · have hd := wt_rs_r hx_ hd
                exact hx_out (fun z hz => (hno z hz).elim) hlocks hce hvn hfc (Option.some.inj hd) hXB hS (Nat.le_of_ble_eq_true rfl) (Nat.le_of_ble_eq_true rfl)
              · have hd := wt_rs_l ho_ hd
                obtain ⟨h166, hd⟩ := wt_ck_o hd
                obtain ⟨w167, hc168, hd⟩ := wt_bd_o hd
                refine kX2_joins (pc := 576) hx hb hml hown hts hC hW hS h166 hc168 hl.1 (Nat.le_of_ble_eq_true rfl) ⟨Nat.le_of_ble_eq_true rfl, Nat.le_of_ble_eq_true rfl⟩ ⟨Nat.le_of_ble_eq_true rfl, Nat.le_of_ble_eq_true rfl⟩ q869 dX5_clause_576 (fun H locs hW hS => ?_)
                refine vx_ret ?_
                exact hx_vret hx hb hr hlocks (Option.some.inj hd) hW hS dX5_clause_579 (Nat.le_of_ble_eq_true rfl) (Nat.le_of_ble_eq_true rfl)
          have hd := wt_if hd c157
          by_cases c169 : w74_ = (4 : Int32)
          · have hd := wt_it hd c169
            refine lv_tableIn (pc := 429) (tgt := 580) (off := 151) hx hb dX5_clause_429 (by rw [c169]; decide) (by rw [c169]; decide) (by rw [c169]; rfl) (by decide) ?_
            refine lv_aload_n (pc := 580) hx hb dX5_clause_580 rfl (lv_at hl 1 rfl) ?_
            refine lv_aload_n (pc := 581) hx hb dX5_clause_581 rfl (lv_at hl 0 rfl) ?_
            refine lv_iconst (pc := 582) (v := 0) hx hb dX5_clause_582 (by decide) ?_
            refine lv_bipush (pc := 583) (v := 16) hx hb dX5_clause_583 (by decide) ?_
            obtain ⟨h170, hd⟩ := wt_ck_o hd
            obtain ⟨w171, hc172, hd⟩ := wt_bd_o hd
            refine kX5_number (pc := 585) hfl hx hb hml hown hts hC hW hS h170 hc172 hl.1 (Nat.le_of_ble_eq_true rfl) ⟨Nat.le_of_ble_eq_true rfl, Nat.le_of_ble_eq_true rfl⟩ ⟨(Nat.le_of_ble_eq_true rfl), (Nat.le_of_ble_eq_true rfl)⟩ q860 dX5_clause_585 (fun x_ hx_ E_ ce_ q9_ H locs hXB hS hce hvn hfc => ?_) (fun o173 ho_ H locs hW hS => ?_)
            · have hd := wt_rs_r hx_ hd
              exact hx_out (fun z hz => (hno z hz).elim) hlocks hce hvn hfc (Option.some.inj hd) hXB hS (Nat.le_of_ble_eq_true rfl) (Nat.le_of_ble_eq_true rfl)
            · have hd := wt_rs_l ho_ hd
              obtain ⟨τ174, h175, hd⟩ := wt_bd_o hd
              refine hr_putN (pc := 588) (ty := .int) hx hb hts hown hK hT hW hS h175 hf_1_4 (by decide +kernel) rfl rfl (fun _ h => h) q134 dX5_clause_588 (fun H locs hW hS => ?_)
              refine vx_ret ?_
              exact hx_vret hx hb hr hlocks (Option.some.inj hd) hW hS dX5_clause_591 (Nat.le_of_ble_eq_true rfl) (Nat.le_of_ble_eq_true rfl)
          have hd := wt_if hd c169
          by_cases c176 : w74_ = (5 : Int32)
          · have hd := wt_it hd c176
            refine lv_tableIn (pc := 429) (tgt := 592) (off := 163) hx hb dX5_clause_429 (by rw [c176]; decide) (by rw [c176]; decide) (by rw [c176]; rfl) (by decide) ?_
            refine lv_aload_n (pc := 592) hx hb dX5_clause_592 rfl (lv_at hl 1 rfl) ?_
            refine lv_aload_n (pc := 593) hx hb dX5_clause_593 rfl (lv_at hl 0 rfl) ?_
            refine lv_iconst (pc := 594) (v := 0) hx hb dX5_clause_594 (by decide) ?_
            refine lv_bipush (pc := 595) (v := 8) hx hb dX5_clause_595 (by decide) ?_
            obtain ⟨h177, hd⟩ := wt_ck_o hd
            obtain ⟨w178, hc179, hd⟩ := wt_bd_o hd
            refine kX5_number (pc := 597) hfl hx hb hml hown hts hC hW hS h177 hc179 hl.1 (Nat.le_of_ble_eq_true rfl) ⟨Nat.le_of_ble_eq_true rfl, Nat.le_of_ble_eq_true rfl⟩ ⟨(Nat.le_of_ble_eq_true rfl), (Nat.le_of_ble_eq_true rfl)⟩ q860 dX5_clause_597 (fun x_ hx_ E_ ce_ q9_ H locs hXB hS hce hvn hfc => ?_) (fun o180 ho_ H locs hW hS => ?_)
            · have hd := wt_rs_r hx_ hd
              exact hx_out (fun z hz => (hno z hz).elim) hlocks hce hvn hfc (Option.some.inj hd) hXB hS (Nat.le_of_ble_eq_true rfl) (Nat.le_of_ble_eq_true rfl)
            · have hd := wt_rs_l ho_ hd
              obtain ⟨τ181, h182, hd⟩ := wt_bd_o hd
              refine hr_putN (pc := 600) (ty := .int) hx hb hts hown hK hT hW hS h182 hf_1_5 (by decide +kernel) rfl rfl (fun _ h => h) q137 dX5_clause_600 (fun H locs hW hS => ?_)
              refine vx_ret ?_
              exact hx_vret hx hb hr hlocks (Option.some.inj hd) hW hS dX5_clause_603 (Nat.le_of_ble_eq_true rfl) (Nat.le_of_ble_eq_true rfl)
          have hd := wt_if hd c176
          have ec108 : ¬ (w74_).toInt = 0 := fun h => c108 (wt_i32 h (by decide))
          have ec127 : ¬ (w74_).toInt = 1 := fun h => c127 (wt_i32 h (by decide))
          have ec142 : ¬ (w74_).toInt = 2 := fun h => c142 (wt_i32 h (by decide))
          have ec157 : ¬ (w74_).toInt = 3 := fun h => c157 (wt_i32 h (by decide))
          have ec169 : ¬ (w74_).toInt = 4 := fun h => c169 (wt_i32 h (by decide))
          have ec176 : ¬ (w74_).toInt = 5 := fun h => c176 (wt_i32 h (by decide))
          refine lv_tableOut (pc := 429) (tgt := 604) hx hb dX5_clause_429 (by omega) (by decide) ?_
          refine lv_aload_n (pc := 604) hx hb dX5_clause_604 rfl (lv_at hl 1 rfl) ?_
          refine lv_aload_n (pc := 605) hx hb dX5_clause_605 rfl (lv_at hl 0 rfl) ?_
          refine lv_iconst (pc := 606) (v := 1) hx hb dX5_clause_606 (by decide) ?_
          refine lv_bipush (pc := 607) (v := 15) hx hb dX5_clause_607 (by decide) ?_
          obtain ⟨h183, hd⟩ := wt_ck_o hd
          obtain ⟨w184, hc185, hd⟩ := wt_bd_o hd
          refine kX5_number (pc := 609) hfl hx hb hml hown hts hC hW hS h183 hc185 hl.1 (Nat.le_of_ble_eq_true rfl) ⟨Nat.le_of_ble_eq_true rfl, Nat.le_of_ble_eq_true rfl⟩ ⟨(Nat.le_of_ble_eq_true rfl), (Nat.le_of_ble_eq_true rfl)⟩ q860 dX5_clause_609 (fun x_ hx_ E_ ce_ q9_ H locs hXB hS hce hvn hfc => ?_) (fun o186 ho_ H locs hW hS => ?_)
          · have hd := wt_rs_r hx_ hd
            exact hx_out (fun z hz => (hno z hz).elim) hlocks hce hvn hfc (Option.some.inj hd) hXB hS (Nat.le_of_ble_eq_true rfl) (Nat.le_of_ble_eq_true rfl)
          · have hd := wt_rs_l ho_ hd
            obtain ⟨τ187, h188, hd⟩ := wt_bd_o hd
            refine hr_putN (pc := 612) (ty := .int) hx hb hts hown hK hT hW hS h188 hf_1_6 (by decide +kernel) rfl rfl (fun _ h => h) q141 dX5_clause_612 (fun H locs hW hS => ?_)
            refine vx_ret ?_
            exact hx_vret hx hb hr hlocks (Option.some.inj hd) hW hS dX5_clause_615 (Nat.le_of_ble_eq_true rfl) (Nat.le_of_ble_eq_true rfl)
        have hd := hj75
        by_cases c78 : w72.1 = (-1354814997 : Int32)
        · have hd := wt_it hd c78
          refine lv_lookup (pc := 280) (tgt := 370) (off := 90) hx hb dX5_clause_280 (by decide) (by rw [c78]; decide) (by decide) ?_
          refine lv_aload_n (pc := 370) hx hb dX5_clause_370 rfl (lv_at hl 1 rfl) ?_
          refine va_ldcS (pc := 371) hx hb hown (hL (100, "common") (by decide)) dX5_clause_371 ?_
          obtain ⟨h79, hd⟩ := wt_ck_o hd
          obtain ⟨w80, hc81, hd⟩ := wt_bd_o hd
          refine kJ9_equals (pc := 373) hx hb hml hown hts hC hW hS h79 hc81 hl.1 (Nat.le_of_ble_eq_true rfl) ⟨Nat.le_of_ble_eq_true rfl, Nat.le_of_ble_eq_true rfl⟩ ⟨Nat.le_of_ble_eq_true rfl, Nat.le_of_ble_eq_true rfl⟩ q813 dX5_clause_373 (fun H locs hW hS => ?_)
          refine lv_if_eq (pc := 376) (tgt := 427) hx hb dX5_clause_376 (by decide) (fun c82 => ?_) (fun c82 => ?_)
          · have hd := wt_it hd c82
            exact hX77 (-1 : Int32) (Option.some.inj hd) _ _ _ hW hS (lv_sub hl [2, 3, 0] rfl)
          · have hd := wt_if hd c82
            refine lv_iconst (pc := 379) (v := 2) hx hb dX5_clause_379 (by decide) ?_
            refine lv_istore (pc := 380) (lv' := [(4, .int (2 : Int32)), (3, .ref w2.1), (0, .ref o_), (1, .ref a0), (2, .ref w2.1)]) hx hb dX5_clause_380 hl (by decide) rfl (fun ls hl => ?_)
            refine lv_goto (pc := 382) (tgt := 427) hx hb dX5_clause_382 (by decide) ?_
            exact hX77 (2 : Int32) (Option.some.inj hd) _ _ _ hW hS (lv_sub hl [2, 3, 0] rfl)
        have hd := wt_if hd c78
        by_cases c83 : w72.1 = (3208383 : Int32)
        · have hd := wt_it hd c83
          refine lv_lookup (pc := 280) (tgt := 355) (off := 75) hx hb dX5_clause_280 (by decide) (by rw [c83]; decide) (by decide) ?_
          refine lv_aload_n (pc := 355) hx hb dX5_clause_355 rfl (lv_at hl 1 rfl) ?_
          refine va_ldcS (pc := 356) hx hb hown (hL (90, "hold") (by decide)) dX5_clause_356 ?_
          obtain ⟨h84, hd⟩ := wt_ck_o hd
          obtain ⟨w85, hc86, hd⟩ := wt_bd_o hd
          refine kJ9_equals (pc := 358) hx hb hml hown hts hC hW hS h84 hc86 hl.1 (Nat.le_of_ble_eq_true rfl) ⟨Nat.le_of_ble_eq_true rfl, Nat.le_of_ble_eq_true rfl⟩ ⟨Nat.le_of_ble_eq_true rfl, Nat.le_of_ble_eq_true rfl⟩ q813 dX5_clause_358 (fun H locs hW hS => ?_)
          refine lv_if_eq (pc := 361) (tgt := 427) hx hb dX5_clause_361 (by decide) (fun c87 => ?_) (fun c87 => ?_)
          · have hd := wt_it hd c87
            exact hX77 (-1 : Int32) (Option.some.inj hd) _ _ _ hW hS (lv_sub hl [2, 3, 0] rfl)
          · have hd := wt_if hd c87
            refine lv_iconst (pc := 364) (v := 1) hx hb dX5_clause_364 (by decide) ?_
            refine lv_istore (pc := 365) (lv' := [(4, .int (1 : Int32)), (3, .ref w2.1), (0, .ref o_), (1, .ref a0), (2, .ref w2.1)]) hx hb dX5_clause_365 hl (by decide) rfl (fun ls hl => ?_)
            refine lv_goto (pc := 367) (tgt := 427) hx hb dX5_clause_367 (by decide) ?_
            exact hX77 (1 : Int32) (Option.some.inj hd) _ _ _ hW hS (lv_sub hl [2, 3, 0] rfl)
        have hd := wt_if hd c83
        by_cases c88 : w72.1 = (3433489 : Int32)
        · have hd := wt_it hd c88
          refine lv_lookup (pc := 280) (tgt := 415) (off := 135) hx hb dX5_clause_280 (by decide) (by rw [c88]; decide) (by decide) ?_
          refine lv_aload_n (pc := 415) hx hb dX5_clause_415 rfl (lv_at hl 1 rfl) ?_
          refine va_ldcS (pc := 416) hx hb hown (hL (94, "pass") (by decide)) dX5_clause_416 ?_
          obtain ⟨h89, hd⟩ := wt_ck_o hd
          obtain ⟨w90, hc91, hd⟩ := wt_bd_o hd
          refine kJ9_equals (pc := 418) hx hb hml hown hts hC hW hS h89 hc91 hl.1 (Nat.le_of_ble_eq_true rfl) ⟨Nat.le_of_ble_eq_true rfl, Nat.le_of_ble_eq_true rfl⟩ ⟨Nat.le_of_ble_eq_true rfl, Nat.le_of_ble_eq_true rfl⟩ q813 dX5_clause_418 (fun H locs hW hS => ?_)
          refine lv_if_eq (pc := 421) (tgt := 427) hx hb dX5_clause_421 (by decide) (fun c92 => ?_) (fun c92 => ?_)
          · have hd := wt_it hd c92
            exact hX77 (-1 : Int32) (Option.some.inj hd) _ _ _ hW hS (lv_sub hl [2, 3, 0] rfl)
          · have hd := wt_if hd c92
            refine lv_iconst (pc := 424) (v := 5) hx hb dX5_clause_424 (by decide) ?_
            refine lv_istore (pc := 425) (lv' := [(4, .int (5 : Int32)), (3, .ref w2.1), (0, .ref o_), (1, .ref a0), (2, .ref w2.1)]) hx hb dX5_clause_425 hl (by decide) rfl (fun ls hl => ?_)
            exact hX77 (5 : Int32) (Option.some.inj hd) _ _ _ hW hS (lv_sub hl [2, 3, 0] rfl)
        have hd := wt_if hd c88
        by_cases c93 : w72.1 = (3529140 : Int32)
        · have hd := wt_it hd c93
          refine lv_lookup (pc := 280) (tgt := 340) (off := 60) hx hb dX5_clause_280 (by decide) (by rw [c93]; decide) (by decide) ?_
          refine lv_aload_n (pc := 340) hx hb dX5_clause_340 rfl (lv_at hl 1 rfl) ?_
          refine va_ldcS (pc := 341) hx hb hown (hL (88, "shed") (by decide)) dX5_clause_341 ?_
          obtain ⟨h94, hd⟩ := wt_ck_o hd
          obtain ⟨w95, hc96, hd⟩ := wt_bd_o hd
          refine kJ9_equals (pc := 343) hx hb hml hown hts hC hW hS h94 hc96 hl.1 (Nat.le_of_ble_eq_true rfl) ⟨Nat.le_of_ble_eq_true rfl, Nat.le_of_ble_eq_true rfl⟩ ⟨Nat.le_of_ble_eq_true rfl, Nat.le_of_ble_eq_true rfl⟩ q813 dX5_clause_343 (fun H locs hW hS => ?_)
          refine lv_if_eq (pc := 346) (tgt := 427) hx hb dX5_clause_346 (by decide) (fun c97 => ?_) (fun c97 => ?_)
          · have hd := wt_it hd c97
            exact hX77 (-1 : Int32) (Option.some.inj hd) _ _ _ hW hS (lv_sub hl [2, 3, 0] rfl)
          · have hd := wt_if hd c97
            refine lv_iconst (pc := 349) (v := 0) hx hb dX5_clause_349 (by decide) ?_
            refine lv_istore (pc := 350) (lv' := [(4, .int (0 : Int32)), (3, .ref w2.1), (0, .ref o_), (1, .ref a0), (2, .ref w2.1)]) hx hb dX5_clause_350 hl (by decide) rfl (fun ls hl => ?_)
            refine lv_goto (pc := 352) (tgt := 427) hx hb dX5_clause_352 (by decide) ?_
            exact hX77 (0 : Int32) (Option.some.inj hd) _ _ _ hW hS (lv_sub hl [2, 3, 0] rfl)
        have hd := wt_if hd c93
        by_cases c98 : w72.1 = (3642015 : Int32)
        · have hd := wt_it hd c98
          refine lv_lookup (pc := 280) (tgt := 400) (off := 120) hx hb dX5_clause_280 (by decide) (by rw [c98]; decide) (by decide) ?_
          refine lv_aload_n (pc := 400) hx hb dX5_clause_400 rfl (lv_at hl 1 rfl) ?_
          refine va_ldcS (pc := 401) hx hb hown (hL (92, "wash") (by decide)) dX5_clause_401 ?_
          obtain ⟨h99, hd⟩ := wt_ck_o hd
          obtain ⟨w100, hc101, hd⟩ := wt_bd_o hd
          refine kJ9_equals (pc := 403) hx hb hml hown hts hC hW hS h99 hc101 hl.1 (Nat.le_of_ble_eq_true rfl) ⟨Nat.le_of_ble_eq_true rfl, Nat.le_of_ble_eq_true rfl⟩ ⟨Nat.le_of_ble_eq_true rfl, Nat.le_of_ble_eq_true rfl⟩ q813 dX5_clause_403 (fun H locs hW hS => ?_)
          refine lv_if_eq (pc := 406) (tgt := 427) hx hb dX5_clause_406 (by decide) (fun c102 => ?_) (fun c102 => ?_)
          · have hd := wt_it hd c102
            exact hX77 (-1 : Int32) (Option.some.inj hd) _ _ _ hW hS (lv_sub hl [2, 3, 0] rfl)
          · have hd := wt_if hd c102
            refine lv_iconst (pc := 409) (v := 4) hx hb dX5_clause_409 (by decide) ?_
            refine lv_istore (pc := 410) (lv' := [(4, .int (4 : Int32)), (3, .ref w2.1), (0, .ref o_), (1, .ref a0), (2, .ref w2.1)]) hx hb dX5_clause_410 hl (by decide) rfl (fun ls hl => ?_)
            refine lv_goto (pc := 412) (tgt := 427) hx hb dX5_clause_412 (by decide) ?_
            exact hX77 (4 : Int32) (Option.some.inj hd) _ _ _ hW hS (lv_sub hl [2, 3, 0] rfl)
        have hd := wt_if hd c98
        by_cases c103 : w72.1 = (92903288 : Int32)
        · have hd := wt_it hd c103
          refine lv_lookup (pc := 280) (tgt := 385) (off := 105) hx hb dX5_clause_280 (by decide) (by rw [c103]; decide) (by decide) ?_
          refine lv_aload_n (pc := 385) hx hb dX5_clause_385 rfl (lv_at hl 1 rfl) ?_
          refine va_ldcS (pc := 386) hx hb hown (hL (98, "alike") (by decide)) dX5_clause_386 ?_
          obtain ⟨h104, hd⟩ := wt_ck_o hd
          obtain ⟨w105, hc106, hd⟩ := wt_bd_o hd
          refine kJ9_equals (pc := 388) hx hb hml hown hts hC hW hS h104 hc106 hl.1 (Nat.le_of_ble_eq_true rfl) ⟨Nat.le_of_ble_eq_true rfl, Nat.le_of_ble_eq_true rfl⟩ ⟨Nat.le_of_ble_eq_true rfl, Nat.le_of_ble_eq_true rfl⟩ q813 dX5_clause_388 (fun H locs hW hS => ?_)
          refine lv_if_eq (pc := 391) (tgt := 427) hx hb dX5_clause_391 (by decide) (fun c107 => ?_) (fun c107 => ?_)
          · have hd := wt_it hd c107
            exact hX77 (-1 : Int32) (Option.some.inj hd) _ _ _ hW hS (lv_sub hl [2, 3, 0] rfl)
          · have hd := wt_if hd c107
            refine lv_iconst (pc := 394) (v := 3) hx hb dX5_clause_394 (by decide) ?_
            refine lv_istore (pc := 395) (lv' := [(4, .int (3 : Int32)), (3, .ref w2.1), (0, .ref o_), (1, .ref a0), (2, .ref w2.1)]) hx hb dX5_clause_395 hl (by decide) rfl (fun ls hl => ?_)
            refine lv_goto (pc := 397) (tgt := 427) hx hb dX5_clause_397 (by decide) ?_
            exact hX77 (3 : Int32) (Option.some.inj hd) _ _ _ hW hS (lv_sub hl [2, 3, 0] rfl)
        have hd := wt_if hd c103
        have ec78 : ¬ (w72.1).toInt = -1354814997 := fun h => c78 (wt_i32 h (by decide))
        have ec83 : ¬ (w72.1).toInt = 3208383 := fun h => c83 (wt_i32 h (by decide))
        have ec88 : ¬ (w72.1).toInt = 3433489 := fun h => c88 (wt_i32 h (by decide))
        have ec93 : ¬ (w72.1).toInt = 3529140 := fun h => c93 (wt_i32 h (by decide))
        have ec98 : ¬ (w72.1).toInt = 3642015 := fun h => c98 (wt_i32 h (by decide))
        have ec103 : ¬ (w72.1).toInt = 92903288 := fun h => c103 (wt_i32 h (by decide))
        refine lv_lookup (pc := 280) (tgt := 427) (off := 147) hx hb dX5_clause_280 (by decide) (wt_lkd [(-1354814997, 90), (3208383, 75), (3433489, 135), (3529140, 60), (3642015, 120), (92903288, 105)] _ _ (by intro q hq; simp only [List.mem_cons, List.not_mem_nil, or_false] at hq; rcases hq with hq | hq | hq | hq | hq | hq <;> subst hq <;> assumption)) (by decide) ?_
        exact hX77 (-1 : Int32) (Option.some.inj hd) _ _ _ hW hS (lv_sub hl [2, 3, 0] rfl)
      · have hd := wt_it hd c63
        obtain ⟨τ189, eτ189, hd⟩ := wt_lt_o hd
        refine hr_new (pc := 245) (ci := 4) (fs := [.null, .null, .null, .null, .null, .int 0, .int 0, .int 0]) hx hb hts hown hK hW hS hA rfl tyX6 tyX6_ok (by decide +kernel) q831 q832 q90 eτ189 (Nat.le_of_ble_eq_true rfl) (Nat.le_of_ble_eq_true rfl) dX5_clause_245 (fun H hW hS => ?_)
        refine lv_dup (pc := 248) hx hb dX5_clause_248 rfl ?_
        refine lv_iconst (pc := 249) (v := 3) hx hb dX5_clause_249 (by decide) ?_
        refine lv_aload_n (pc := 250) hx hb dX5_clause_250 rfl (lv_at hl 0 rfl) ?_
        obtain ⟨f190, h191, hd⟩ := wt_bd_o hd
        refine hr_get (pc := 251) hx hb hts hown hK hW (hgI_o h191) hf_3_2 (fun _ h => h) q698 dX5_clause_251 ?_
        obtain ⟨w192, hc193, hd⟩ := wt_bd_o hd
        refine kX6_init (pc := 254) hx hb hml hown hts hC hW hS hc193 hl.1 (Nat.le_of_ble_eq_true rfl) ⟨Nat.le_of_ble_eq_true rfl, Nat.le_of_ble_eq_true rfl⟩ ⟨Nat.le_of_ble_eq_true rfl, Nat.le_of_ble_eq_true rfl⟩ q840 dX5_clause_254 (fun H locs hW hS => ?_)
        obtain ⟨h194, hd⟩ := wt_ck_o hd
        exact hx_throwW (pc := 257) hx hb hC hno hlocks h194 (Option.some.inj hd) hW hS dX5_clause_257 (Nat.le_of_ble_eq_true rfl) (Nat.le_of_ble_eq_true rfl)
    have hd := hj47
    by_cases c50 : w7_ = (0 : Int32)
    · have hd := wt_it hd c50
      refine lv_tableIn (pc := 185) (tgt := 228) (off := 43) hx hb dX5_clause_185 (by rw [c50]; decide) (by rw [c50]; decide) (by rw [c50]; rfl) (by decide) ?_
      exact hX49 () (Option.some.inj hd) _ _ _ hW hS (lv_sub hl [0, 1, 2] rfl)
    have hd := wt_if hd c50
    by_cases c51 : w7_ = (1 : Int32)
    · have hd := wt_it hd c51
      refine lv_tableIn (pc := 185) (tgt := 228) (off := 43) hx hb dX5_clause_185 (by rw [c51]; decide) (by rw [c51]; decide) (by rw [c51]; rfl) (by decide) ?_
      exact hX49 () (Option.some.inj hd) _ _ _ hW hS (lv_sub hl [0, 1, 2] rfl)
    have hd := wt_if hd c51
    by_cases c52 : w7_ = (2 : Int32)
    · have hd := wt_it hd c52
      refine lv_tableIn (pc := 185) (tgt := 228) (off := 43) hx hb dX5_clause_185 (by rw [c52]; decide) (by rw [c52]; decide) (by rw [c52]; rfl) (by decide) ?_
      exact hX49 () (Option.some.inj hd) _ _ _ hW hS (lv_sub hl [0, 1, 2] rfl)
    have hd := wt_if hd c52
    by_cases c53 : w7_ = (3 : Int32)
    · have hd := wt_it hd c53
      refine lv_tableIn (pc := 185) (tgt := 228) (off := 43) hx hb dX5_clause_185 (by rw [c53]; decide) (by rw [c53]; decide) (by rw [c53]; rfl) (by decide) ?_
      exact hX49 () (Option.some.inj hd) _ _ _ hW hS (lv_sub hl [0, 1, 2] rfl)
    have hd := wt_if hd c53
    by_cases c54 : w7_ = (4 : Int32)
    · have hd := wt_it hd c54
      refine lv_tableIn (pc := 185) (tgt := 228) (off := 43) hx hb dX5_clause_185 (by rw [c54]; decide) (by rw [c54]; decide) (by rw [c54]; rfl) (by decide) ?_
      exact hX49 () (Option.some.inj hd) _ _ _ hW hS (lv_sub hl [0, 1, 2] rfl)
    have hd := wt_if hd c54
    by_cases c55 : w7_ = (5 : Int32)
    · have hd := wt_it hd c55
      refine lv_tableIn (pc := 185) (tgt := 228) (off := 43) hx hb dX5_clause_185 (by rw [c55]; decide) (by rw [c55]; decide) (by rw [c55]; rfl) (by decide) ?_
      exact hX49 () (Option.some.inj hd) _ _ _ hW hS (lv_sub hl [0, 1, 2] rfl)
    have hd := wt_if hd c55
    by_cases c56 : w7_ = (6 : Int32)
    · have hd := wt_it hd c56
      refine lv_tableIn (pc := 185) (tgt := 228) (off := 43) hx hb dX5_clause_185 (by rw [c56]; decide) (by rw [c56]; decide) (by rw [c56]; rfl) (by decide) ?_
      exact hX49 () (Option.some.inj hd) _ _ _ hW hS (lv_sub hl [0, 1, 2] rfl)
    have hd := wt_if hd c56
    have ec50 : ¬ (w7_).toInt = 0 := fun h => c50 (wt_i32 h (by decide))
    have ec51 : ¬ (w7_).toInt = 1 := fun h => c51 (wt_i32 h (by decide))
    have ec52 : ¬ (w7_).toInt = 2 := fun h => c52 (wt_i32 h (by decide))
    have ec53 : ¬ (w7_).toInt = 3 := fun h => c53 (wt_i32 h (by decide))
    have ec54 : ¬ (w7_).toInt = 4 := fun h => c54 (wt_i32 h (by decide))
    have ec55 : ¬ (w7_).toInt = 5 := fun h => c55 (wt_i32 h (by decide))
    have ec56 : ¬ (w7_).toInt = 6 := fun h => c56 (wt_i32 h (by decide))
    refine lv_tableOut (pc := 185) (tgt := 231) hx hb dX5_clause_185 (by omega) (by decide) ?_
    refine lv_aload_n (pc := 231) hx hb dX5_clause_231 rfl (lv_at hl 0 rfl) ?_
    obtain ⟨h57, hd⟩ := wt_ck_o hd
    obtain ⟨w58, hc59, hd⟩ := wt_bd_o hd
    refine kX5_wrong (pc := 232) hx hb hml hown hts hC hW hS h57 hc59 hl.1 (Nat.le_of_ble_eq_true rfl) ⟨Nat.le_of_ble_eq_true rfl, Nat.le_of_ble_eq_true rfl⟩ ⟨(Nat.le_of_ble_eq_true rfl), (Nat.le_of_ble_eq_true rfl)⟩ q827 dX5_clause_232 (fun H locs hW hS => ?_)
    obtain ⟨h60, hd⟩ := wt_ck_o hd
    have hd := wt_rs_r (Option.some.inj hd) hq48
    exact hx_throwW (pc := 235) hx hb hC hno hlocks h60 (Option.some.inj hd) hW hS dX5_clause_235 (Nat.le_of_ble_eq_true rfl) (Nat.le_of_ble_eq_true rfl)
  have hd := hj8
  by_cases c11 : w5.1 = (-1354814997 : Int32)
  · have hd := wt_it hd c11
    refine lv_lookup (pc := 14) (tgt := 170) (off := 156) hx hb dX5_clause_14 (by decide) (by rw [c11]; decide) (by decide) ?_
    refine lv_aload_n (pc := 170) hx hb dX5_clause_170 rfl (lv_at hl 1 rfl) ?_
    refine va_ldcS (pc := 171) hx hb hown (hL (100, "common") (by decide)) dX5_clause_171 ?_
    obtain ⟨h12, hd⟩ := wt_ck_o hd
    obtain ⟨w13, hc14, hd⟩ := wt_bd_o hd
    refine kJ9_equals (pc := 173) hx hb hml hown hts hC hW hS h12 hc14 hl.1 (Nat.le_of_ble_eq_true rfl) ⟨Nat.le_of_ble_eq_true rfl, Nat.le_of_ble_eq_true rfl⟩ ⟨Nat.le_of_ble_eq_true rfl, Nat.le_of_ble_eq_true rfl⟩ q813 dX5_clause_173 (fun H locs hW hS => ?_)
    refine lv_if_eq (pc := 176) (tgt := 183) hx hb dX5_clause_176 (by decide) (fun c15 => ?_) (fun c15 => ?_)
    · have hd := wt_it hd c15
      exact hX10 (-1 : Int32) (Option.some.inj hd) _ _ _ hW hS (lv_sub hl [3, 4, 2, 0] rfl)
    · have hd := wt_if hd c15
      refine lv_bipush (pc := 179) (v := 6) hx hb dX5_clause_179 (by decide) ?_
      refine lv_istore (pc := 181) (lv' := [(4, .int (6 : Int32)), (3, .ref w2.1), (2, .ref w2.1), (0, .ref o_), (1, .ref a0)]) hx hb dX5_clause_181 hl (by decide) rfl (fun ls hl => ?_)
      exact hX10 (6 : Int32) (Option.some.inj hd) _ _ _ hW hS (lv_sub hl [3, 4, 2, 0] rfl)
  have hd := wt_if hd c11
  by_cases c16 : w5.1 = (3208383 : Int32)
  · have hd := wt_it hd c16
    refine lv_lookup (pc := 14) (tgt := 95) (off := 81) hx hb dX5_clause_14 (by decide) (by rw [c16]; decide) (by decide) ?_
    refine lv_aload_n (pc := 95) hx hb dX5_clause_95 rfl (lv_at hl 1 rfl) ?_
    refine va_ldcS (pc := 96) hx hb hown (hL (90, "hold") (by decide)) dX5_clause_96 ?_
    obtain ⟨h17, hd⟩ := wt_ck_o hd
    obtain ⟨w18, hc19, hd⟩ := wt_bd_o hd
    refine kJ9_equals (pc := 98) hx hb hml hown hts hC hW hS h17 hc19 hl.1 (Nat.le_of_ble_eq_true rfl) ⟨Nat.le_of_ble_eq_true rfl, Nat.le_of_ble_eq_true rfl⟩ ⟨Nat.le_of_ble_eq_true rfl, Nat.le_of_ble_eq_true rfl⟩ q813 dX5_clause_98 (fun H locs hW hS => ?_)
    refine lv_if_eq (pc := 101) (tgt := 183) hx hb dX5_clause_101 (by decide) (fun c20 => ?_) (fun c20 => ?_)
    · have hd := wt_it hd c20
      exact hX10 (-1 : Int32) (Option.some.inj hd) _ _ _ hW hS (lv_sub hl [3, 4, 2, 0] rfl)
    · have hd := wt_if hd c20
      refine lv_iconst (pc := 104) (v := 1) hx hb dX5_clause_104 (by decide) ?_
      refine lv_istore (pc := 105) (lv' := [(4, .int (1 : Int32)), (3, .ref w2.1), (2, .ref w2.1), (0, .ref o_), (1, .ref a0)]) hx hb dX5_clause_105 hl (by decide) rfl (fun ls hl => ?_)
      refine lv_goto (pc := 107) (tgt := 183) hx hb dX5_clause_107 (by decide) ?_
      exact hX10 (1 : Int32) (Option.some.inj hd) _ _ _ hW hS (lv_sub hl [3, 4, 2, 0] rfl)
  have hd := wt_if hd c16
  by_cases c21 : w5.1 = (3433489 : Int32)
  · have hd := wt_it hd c21
    refine lv_lookup (pc := 14) (tgt := 125) (off := 111) hx hb dX5_clause_14 (by decide) (by rw [c21]; decide) (by decide) ?_
    refine lv_aload_n (pc := 125) hx hb dX5_clause_125 rfl (lv_at hl 1 rfl) ?_
    refine va_ldcS (pc := 126) hx hb hown (hL (94, "pass") (by decide)) dX5_clause_126 ?_
    obtain ⟨h22, hd⟩ := wt_ck_o hd
    obtain ⟨w23, hc24, hd⟩ := wt_bd_o hd
    refine kJ9_equals (pc := 128) hx hb hml hown hts hC hW hS h22 hc24 hl.1 (Nat.le_of_ble_eq_true rfl) ⟨Nat.le_of_ble_eq_true rfl, Nat.le_of_ble_eq_true rfl⟩ ⟨Nat.le_of_ble_eq_true rfl, Nat.le_of_ble_eq_true rfl⟩ q813 dX5_clause_128 (fun H locs hW hS => ?_)
    refine lv_if_eq (pc := 131) (tgt := 183) hx hb dX5_clause_131 (by decide) (fun c25 => ?_) (fun c25 => ?_)
    · have hd := wt_it hd c25
      exact hX10 (-1 : Int32) (Option.some.inj hd) _ _ _ hW hS (lv_sub hl [3, 4, 2, 0] rfl)
    · have hd := wt_if hd c25
      refine lv_iconst (pc := 134) (v := 3) hx hb dX5_clause_134 (by decide) ?_
      refine lv_istore (pc := 135) (lv' := [(4, .int (3 : Int32)), (3, .ref w2.1), (2, .ref w2.1), (0, .ref o_), (1, .ref a0)]) hx hb dX5_clause_135 hl (by decide) rfl (fun ls hl => ?_)
      refine lv_goto (pc := 137) (tgt := 183) hx hb dX5_clause_137 (by decide) ?_
      exact hX10 (3 : Int32) (Option.some.inj hd) _ _ _ hW hS (lv_sub hl [3, 4, 2, 0] rfl)
  have hd := wt_if hd c21
  by_cases c26 : w5.1 = (3529140 : Int32)
  · have hd := wt_it hd c26
    refine lv_lookup (pc := 14) (tgt := 80) (off := 66) hx hb dX5_clause_14 (by decide) (by rw [c26]; decide) (by decide) ?_
    refine lv_aload_n (pc := 80) hx hb dX5_clause_80 rfl (lv_at hl 1 rfl) ?_
    refine va_ldcS (pc := 81) hx hb hown (hL (88, "shed") (by decide)) dX5_clause_81 ?_
    obtain ⟨h27, hd⟩ := wt_ck_o hd
    obtain ⟨w28, hc29, hd⟩ := wt_bd_o hd
    refine kJ9_equals (pc := 83) hx hb hml hown hts hC hW hS h27 hc29 hl.1 (Nat.le_of_ble_eq_true rfl) ⟨Nat.le_of_ble_eq_true rfl, Nat.le_of_ble_eq_true rfl⟩ ⟨Nat.le_of_ble_eq_true rfl, Nat.le_of_ble_eq_true rfl⟩ q813 dX5_clause_83 (fun H locs hW hS => ?_)
    refine lv_if_eq (pc := 86) (tgt := 183) hx hb dX5_clause_86 (by decide) (fun c30 => ?_) (fun c30 => ?_)
    · have hd := wt_it hd c30
      exact hX10 (-1 : Int32) (Option.some.inj hd) _ _ _ hW hS (lv_sub hl [3, 4, 2, 0] rfl)
    · have hd := wt_if hd c30
      refine lv_iconst (pc := 89) (v := 0) hx hb dX5_clause_89 (by decide) ?_
      refine lv_istore (pc := 90) (lv' := [(4, .int (0 : Int32)), (3, .ref w2.1), (2, .ref w2.1), (0, .ref o_), (1, .ref a0)]) hx hb dX5_clause_90 hl (by decide) rfl (fun ls hl => ?_)
      refine lv_goto (pc := 92) (tgt := 183) hx hb dX5_clause_92 (by decide) ?_
      exact hX10 (0 : Int32) (Option.some.inj hd) _ _ _ hW hS (lv_sub hl [3, 4, 2, 0] rfl)
  have hd := wt_if hd c26
  by_cases c31 : w5.1 = (3552391 : Int32)
  · have hd := wt_it hd c31
    refine lv_lookup (pc := 14) (tgt := 140) (off := 126) hx hb dX5_clause_14 (by decide) (by rw [c31]; decide) (by decide) ?_
    refine lv_aload_n (pc := 140) hx hb dX5_clause_140 rfl (lv_at hl 1 rfl) ?_
    refine va_ldcS (pc := 141) hx hb hown (hL (96, "take") (by decide)) dX5_clause_141 ?_
    obtain ⟨h32, hd⟩ := wt_ck_o hd
    obtain ⟨w33, hc34, hd⟩ := wt_bd_o hd
    refine kJ9_equals (pc := 143) hx hb hml hown hts hC hW hS h32 hc34 hl.1 (Nat.le_of_ble_eq_true rfl) ⟨Nat.le_of_ble_eq_true rfl, Nat.le_of_ble_eq_true rfl⟩ ⟨Nat.le_of_ble_eq_true rfl, Nat.le_of_ble_eq_true rfl⟩ q813 dX5_clause_143 (fun H locs hW hS => ?_)
    refine lv_if_eq (pc := 146) (tgt := 183) hx hb dX5_clause_146 (by decide) (fun c35 => ?_) (fun c35 => ?_)
    · have hd := wt_it hd c35
      exact hX10 (-1 : Int32) (Option.some.inj hd) _ _ _ hW hS (lv_sub hl [3, 4, 2, 0] rfl)
    · have hd := wt_if hd c35
      refine lv_iconst (pc := 149) (v := 4) hx hb dX5_clause_149 (by decide) ?_
      refine lv_istore (pc := 150) (lv' := [(4, .int (4 : Int32)), (3, .ref w2.1), (2, .ref w2.1), (0, .ref o_), (1, .ref a0)]) hx hb dX5_clause_150 hl (by decide) rfl (fun ls hl => ?_)
      refine lv_goto (pc := 152) (tgt := 183) hx hb dX5_clause_152 (by decide) ?_
      exact hX10 (4 : Int32) (Option.some.inj hd) _ _ _ hW hS (lv_sub hl [3, 4, 2, 0] rfl)
  have hd := wt_if hd c31
  by_cases c36 : w5.1 = (3642015 : Int32)
  · have hd := wt_it hd c36
    refine lv_lookup (pc := 14) (tgt := 110) (off := 96) hx hb dX5_clause_14 (by decide) (by rw [c36]; decide) (by decide) ?_
    refine lv_aload_n (pc := 110) hx hb dX5_clause_110 rfl (lv_at hl 1 rfl) ?_
    refine va_ldcS (pc := 111) hx hb hown (hL (92, "wash") (by decide)) dX5_clause_111 ?_
    obtain ⟨h37, hd⟩ := wt_ck_o hd
    obtain ⟨w38, hc39, hd⟩ := wt_bd_o hd
    refine kJ9_equals (pc := 113) hx hb hml hown hts hC hW hS h37 hc39 hl.1 (Nat.le_of_ble_eq_true rfl) ⟨Nat.le_of_ble_eq_true rfl, Nat.le_of_ble_eq_true rfl⟩ ⟨Nat.le_of_ble_eq_true rfl, Nat.le_of_ble_eq_true rfl⟩ q813 dX5_clause_113 (fun H locs hW hS => ?_)
    refine lv_if_eq (pc := 116) (tgt := 183) hx hb dX5_clause_116 (by decide) (fun c40 => ?_) (fun c40 => ?_)
    · have hd := wt_it hd c40
      exact hX10 (-1 : Int32) (Option.some.inj hd) _ _ _ hW hS (lv_sub hl [3, 4, 2, 0] rfl)
    · have hd := wt_if hd c40
      refine lv_iconst (pc := 119) (v := 2) hx hb dX5_clause_119 (by decide) ?_
      refine lv_istore (pc := 120) (lv' := [(4, .int (2 : Int32)), (3, .ref w2.1), (2, .ref w2.1), (0, .ref o_), (1, .ref a0)]) hx hb dX5_clause_120 hl (by decide) rfl (fun ls hl => ?_)
      refine lv_goto (pc := 122) (tgt := 183) hx hb dX5_clause_122 (by decide) ?_
      exact hX10 (2 : Int32) (Option.some.inj hd) _ _ _ hW hS (lv_sub hl [3, 4, 2, 0] rfl)
  have hd := wt_if hd c36
  by_cases c41 : w5.1 = (92903288 : Int32)
  · have hd := wt_it hd c41
    refine lv_lookup (pc := 14) (tgt := 155) (off := 141) hx hb dX5_clause_14 (by decide) (by rw [c41]; decide) (by decide) ?_
    refine lv_aload_n (pc := 155) hx hb dX5_clause_155 rfl (lv_at hl 1 rfl) ?_
    refine va_ldcS (pc := 156) hx hb hown (hL (98, "alike") (by decide)) dX5_clause_156 ?_
    obtain ⟨h42, hd⟩ := wt_ck_o hd
    obtain ⟨w43, hc44, hd⟩ := wt_bd_o hd
    refine kJ9_equals (pc := 158) hx hb hml hown hts hC hW hS h42 hc44 hl.1 (Nat.le_of_ble_eq_true rfl) ⟨Nat.le_of_ble_eq_true rfl, Nat.le_of_ble_eq_true rfl⟩ ⟨Nat.le_of_ble_eq_true rfl, Nat.le_of_ble_eq_true rfl⟩ q813 dX5_clause_158 (fun H locs hW hS => ?_)
    refine lv_if_eq (pc := 161) (tgt := 183) hx hb dX5_clause_161 (by decide) (fun c45 => ?_) (fun c45 => ?_)
    · have hd := wt_it hd c45
      exact hX10 (-1 : Int32) (Option.some.inj hd) _ _ _ hW hS (lv_sub hl [3, 4, 2, 0] rfl)
    · have hd := wt_if hd c45
      refine lv_iconst (pc := 164) (v := 5) hx hb dX5_clause_164 (by decide) ?_
      refine lv_istore (pc := 165) (lv' := [(4, .int (5 : Int32)), (3, .ref w2.1), (2, .ref w2.1), (0, .ref o_), (1, .ref a0)]) hx hb dX5_clause_165 hl (by decide) rfl (fun ls hl => ?_)
      refine lv_goto (pc := 167) (tgt := 183) hx hb dX5_clause_167 (by decide) ?_
      exact hX10 (5 : Int32) (Option.some.inj hd) _ _ _ hW hS (lv_sub hl [3, 4, 2, 0] rfl)
  have hd := wt_if hd c41
  have ec11 : ¬ (w5.1).toInt = -1354814997 := fun h => c11 (wt_i32 h (by decide))
  have ec16 : ¬ (w5.1).toInt = 3208383 := fun h => c16 (wt_i32 h (by decide))
  have ec21 : ¬ (w5.1).toInt = 3433489 := fun h => c21 (wt_i32 h (by decide))
  have ec26 : ¬ (w5.1).toInt = 3529140 := fun h => c26 (wt_i32 h (by decide))
  have ec31 : ¬ (w5.1).toInt = 3552391 := fun h => c31 (wt_i32 h (by decide))
  have ec36 : ¬ (w5.1).toInt = 3642015 := fun h => c36 (wt_i32 h (by decide))
  have ec41 : ¬ (w5.1).toInt = 92903288 := fun h => c41 (wt_i32 h (by decide))
  refine lv_lookup (pc := 14) (tgt := 183) (off := 169) hx hb dX5_clause_14 (by decide) (wt_lkd [(-1354814997, 156), (3208383, 81), (3433489, 111), (3529140, 66), (3552391, 126), (3642015, 96), (92903288, 141)] _ _ (by intro q hq; simp only [List.mem_cons, List.not_mem_nil, or_false] at hq; rcases hq with hq | hq | hq | hq | hq | hq | hq <;> subst hq <;> assumption)) (by decide) ?_
  exact hX10 (-1 : Int32) (Option.some.inj hd) _ _ _ hW hS (lv_sub hl [3, 4, 2, 0] rfl)
theorem kX5_clause {p : Program} {l : Launch} {e : Env} {R : Room} {s : State} {m : MethodId} {args : Array Value} {below : List Frame} {meth : Method} {c : Code} {H : Heap} {locs : List Loc} {cells slots : Nat} {Q : State → Prop} {cc : ByteArray} {pc : Nat} {ls : Array Slot} {rest : List Value} {nL : Nat} {own : String} {index : Nat} {G : HG} {A : Nat → Prop} {τ : HP} {o_ : Nat} {a0 : Nat} {out_ : (HP) ⊕ (Nat × Nat × HP)} (hfl : l.stackTraces = false) (hx : p.tables.exec = Jvm.exec) (hb : c.code = cc) (hml : c.maxLocals = nL) (hown : s.vm.findClass own = some m.cls) (hts : ∀ w ∈ lw_all, w.before args s = true) (hC : Hcx G A s) (hW : Hw G A τ H) (hS : va_S A s.heap H locs) (hrc : hcl τ o_ = some 3) (hd : eX5_clause G.2.2 τ o_ a0 = some out_) (hsz : ls.size = nL) (hrm : (rest.map fun v => v.category).sum ≤ 8) (hR : 8 ≤ R.frames ∧ 195 ≤ R.locals) (hcs : (cells + 7) ≤ R.cells ∧ (slots + 64) ≤ R.slots) (hlk : Cond.methodLink own index yX5_clause ∈ lw_all) (hdg : decode cc pc = .ok (.invokevirtual index, 3)) (kx : ∀ x_ : Nat × Nat × HP, Sum.inr x_ = out_ → ∀ (E : String) (ce : Cell) (q9 : Addr) (H1 : Heap) (locs1 : List Loc), hXb G A E q9 x_ H1 → va_S A s.heap H1 locs1 → H1[q9]? = some ce → ce.vm = .none → s.vm.findClass E = some ce.cls → vx_W p l e R s m args below meth c H1 locs1 (cells + 7) (slots + 64) Q (F0 m pc ls rest) q9) (kk : ∀ o_1 : HP, Sum.inl o_1 = out_ → ∀ (H1 : Heap) (locs1 : List Loc), Hw G A o_1 H1 → va_S A s.heap H1 locs1 → W p l e R s m args below meth c H1 locs1 (cells + 7) (slots + 64) Q (F0 m (pc + 3) ls (rest))) : W p l e R s m args below meth c H locs cells slots Q (F0 m pc ls (.ref a0 :: .ref o_ :: rest)) := by
  refine vx_callv (vx_runV (As := [.ref a0]) (rest := rest) ⟨hx, hb, hml, hown, hts⟩ (wX5_clause l hfl hd) (cwV 1 hts (lw_V hlk q721 qs6 q89 q722) rfl rfl rfl (by decide +kernel) hR) (hr_preV hC hW hS hrc rfl rfl) rfl rfl hsz rfl (lv_room hrm) hdg hcs) hS (fun _ _ h => h) (fun _ h => h) (fun _ _ h => h) (fun E ce q9 u t H1 locs1 ht hvm hp hB hz hk hS1 hce hvn hfc => ?_) (fun u t H1 locs1 ht hvm hp hB hz hk hS1 => ?_)
  · rw [ht] at hB
    exact kx u hp E ce q9 H1 locs1 hB hS1 hce hvn hfc
  · have hW1 : Hw G A u t.heap := hB
    rw [ht] at hW1
    exact kk u hp H1 locs1 hW1 hS1
noncomputable def eX5_need (τ : HP) (o_ : Nat) (a0 : Int32) : Option ((HP) ⊕ (Nat × Nat × HP)) :=
  wt_ck (hcl τ o_ = some 3) <| wt_bd (eX5_sign τ o_) fun w2 => if w2.1 = a0 then (wt_bd (hgI w2.2 o_ [3] 2) fun f5 => wt_bd (hp w2.2 o_ [3] 2 (.int ((f5 + (1 : Int32))))) fun τ7 => some (.inl (τ7))) else (wt_ck (hcl w2.2 o_ = some 3) <| wt_bd (eX5_wrong w2.2 o_) fun w10 => wt_ck (hcl w10.2 w10.1 = some 4) <| some (.inr (4, w10.1, w10.2)))
set_option maxHeartbeats 4000000 in
theorem wX5_need (l : Launch) (hfl : l.stackTraces = false) {G : HG} {A : Nat → Prop} {τ : HP} {o_ : Nat} {a0 : Int32} {out_ : (HP) ⊕ (Nat × Nat × HP)} (hd : eX5_need τ o_ a0 = some out_) : vx_Met l yX5_need (ws_ yX5_need cX5_need 2 none) ({ frames := 5, cells := 1, slots := 8, locals := 122 }) (hPc G A τ [.ref o_, .int a0]) (hXv G A (fun u => Sum.inl u = out_)) (hXX G A out_) 1 8 A := by
  refine vx_ofW (cc := cX5_need) (maxL := 2) (ret := none) (by decide) rfl ?_
  intro p_ e_ s_ m_ args_ below_ meth_ c_ s₁_ B hml hno hv
  obtain ⟨rfl, hW, hC⟩ := hv
  have hx := B.exec
  have hb := B.bytes
  have hr := B.returns
  have hts := atoms_spec (ws := (ws_ yX5_need cX5_need 2 none)) B.pre
  have hts : ∀ w ∈ lw_all, w.before _ s_ = true := fun w h => hts w (List.mem_cons_of_mem _ h)
  have hown : s_.vm.findClass RX5 = some m_.cls := findClass_of_methodNamed B.named
  have hlocks := B.notSynchronized
  have hK := hC.1
  have hT := hC.2.1
  have hL := hC.2.2.1
  have hZ := hC.2.2.2.2.1
  have hA := hC.2.2.2.2.2
  have hS : va_S A s_.heap s_.heap [] := va_S.rf
  have hl := lv_entry ([.ref o_, .int a0]) (n := 2) (Nat.le_of_ble_eq_true rfl)
  rw [lg_entry_eq]
  generalize (lg_sl ([.ref o_, .int a0]) ++ List.replicate (2 - (lg_sl ([.ref o_, .int a0])).length) Slot.unset).toArray = ls at hl ⊢
  have hl : lv_has ls 2 [(0, .ref o_), (1, .int a0)] := hl
  unfold eX5_need at hd
  refine lv_aload_n (pc := 0) hx hb dX5_need_0 rfl (lv_at hl 0 rfl) ?_
  obtain ⟨h1, hd⟩ := wt_ck_o hd
  obtain ⟨w2, hc3, hd⟩ := wt_bd_o hd
  refine kX5_sign (pc := 1) hx hb hml hown hts hC hW hS h1 hc3 hl.1 (Nat.le_of_ble_eq_true rfl) ⟨Nat.le_of_ble_eq_true rfl, Nat.le_of_ble_eq_true rfl⟩ ⟨Nat.le_of_ble_eq_true rfl, Nat.le_of_ble_eq_true rfl⟩ q715 dX5_need_1 (fun H locs hW hS => ?_)
  refine lv_iload_n (pc := 4) hx hb dX5_need_4 rfl (lv_at hl 1 rfl) ?_
  refine lv_icmp_eq (pc := 5) (tgt := 13) hx hb dX5_need_5 (by decide) (fun c4 => ?_) (fun c4 => ?_)
  · have hd := wt_it hd c4
    refine lv_aload_n (pc := 13) hx hb dX5_need_13 rfl (lv_at hl 0 rfl) ?_
    refine lv_dup (pc := 14) hx hb dX5_need_14 rfl ?_
    obtain ⟨f5, h6, hd⟩ := wt_bd_o hd
    refine hr_get (pc := 15) hx hb hts hown hK hW (hgI_o h6) hf_3_2 (fun _ h => h) q698 dX5_need_15 ?_
    refine lv_iconst (pc := 18) (v := 1) hx hb dX5_need_18 (by decide) ?_
    refine lv_iadd (pc := 19) hx hb dX5_need_19 ?_
    obtain ⟨τ7, h8, hd⟩ := wt_bd_o hd
    refine hr_put (pc := 20) (ty := .int) hx hb hts hown hK hW hS h8 hf_3_2 (by decide +kernel) rfl rfl (fun _ h => h) q698 dX5_need_20 (fun H locs hW hS => ?_)
    refine vx_ret ?_
    exact hx_vret hx hb hr hlocks (Option.some.inj hd) hW hS dX5_need_23 (Nat.le_of_ble_eq_true rfl) (Nat.le_of_ble_eq_true rfl)
  · have hd := wt_if hd c4
    refine lv_aload_n (pc := 8) hx hb dX5_need_8 rfl (lv_at hl 0 rfl) ?_
    obtain ⟨h9, hd⟩ := wt_ck_o hd
    obtain ⟨w10, hc11, hd⟩ := wt_bd_o hd
    refine kX5_wrong (pc := 9) hx hb hml hown hts hC hW hS h9 hc11 hl.1 (Nat.le_of_ble_eq_true rfl) ⟨Nat.le_of_ble_eq_true rfl, Nat.le_of_ble_eq_true rfl⟩ ⟨(Nat.le_of_ble_eq_true rfl), (Nat.le_of_ble_eq_true rfl)⟩ q827 dX5_need_9 (fun H locs hW hS => ?_)
    obtain ⟨h12, hd⟩ := wt_ck_o hd
    exact hx_throwW (pc := 12) hx hb hC hno hlocks h12 (Option.some.inj hd) hW hS dX5_need_12 (Nat.le_of_ble_eq_true rfl) (Nat.le_of_ble_eq_true rfl)
theorem kX5_need {p : Program} {l : Launch} {e : Env} {R : Room} {s : State} {m : MethodId} {args : Array Value} {below : List Frame} {meth : Method} {c : Code} {H : Heap} {locs : List Loc} {cells slots : Nat} {Q : State → Prop} {cc : ByteArray} {pc : Nat} {ls : Array Slot} {rest : List Value} {nL : Nat} {own : String} {index : Nat} {G : HG} {A : Nat → Prop} {τ : HP} {o_ : Nat} {a0 : Int32} {out_ : (HP) ⊕ (Nat × Nat × HP)} (hfl : l.stackTraces = false) (hx : p.tables.exec = Jvm.exec) (hb : c.code = cc) (hml : c.maxLocals = nL) (hown : s.vm.findClass own = some m.cls) (hts : ∀ w ∈ lw_all, w.before args s = true) (hC : Hcx G A s) (hW : Hw G A τ H) (hS : va_S A s.heap H locs) (hrc : hcl τ o_ = some 3) (hd : eX5_need τ o_ a0 = some out_) (hsz : ls.size = nL) (hrm : (rest.map fun v => v.category).sum ≤ 8) (hR : 6 ≤ R.frames ∧ 143 ≤ R.locals) (hcs : (cells + 1) ≤ R.cells ∧ (slots + 8) ≤ R.slots) (hlk : Cond.methodLink own index yX5_need ∈ lw_all) (hdg : decode cc pc = .ok (.invokevirtual index, 3)) (kx : ∀ x_ : Nat × Nat × HP, Sum.inr x_ = out_ → ∀ (E : String) (ce : Cell) (q9 : Addr) (H1 : Heap) (locs1 : List Loc), hXb G A E q9 x_ H1 → va_S A s.heap H1 locs1 → H1[q9]? = some ce → ce.vm = .none → s.vm.findClass E = some ce.cls → vx_W p l e R s m args below meth c H1 locs1 (cells + 1) (slots + 8) Q (F0 m pc ls rest) q9) (kk : ∀ o_1 : HP, Sum.inl o_1 = out_ → ∀ (H1 : Heap) (locs1 : List Loc), Hw G A o_1 H1 → va_S A s.heap H1 locs1 → W p l e R s m args below meth c H1 locs1 (cells + 1) (slots + 8) Q (F0 m (pc + 3) ls (rest))) : W p l e R s m args below meth c H locs cells slots Q (F0 m pc ls (.int a0 :: .ref o_ :: rest)) := by
  refine vx_callv (vx_runV (As := [.int a0]) (rest := rest) ⟨hx, hb, hml, hown, hts⟩ (wX5_need l hfl hd) (cwV 1 hts (lw_V hlk q875 qs11 q89 q876) rfl rfl rfl (by decide +kernel) hR) (hr_preV hC hW hS hrc rfl rfl) rfl rfl hsz rfl (lv_room hrm) hdg hcs) hS (fun _ _ h => h) (fun _ h => h) (fun _ _ h => h) (fun E ce q9 u t H1 locs1 ht hvm hp hB hz hk hS1 hce hvn hfc => ?_) (fun u t H1 locs1 ht hvm hp hB hz hk hS1 => ?_)
  · rw [ht] at hB
    exact kx u hp E ce q9 H1 locs1 hB hS1 hce hvn hfc
  · have hW1 : Hw G A u t.heap := hB
    rw [ht] at hW1
    exact kk u hp H1 locs1 hW1 hS1
noncomputable def bX5_law_1 (lit_ : Nat → Nat) (τ : HP) (o_ : Nat) (v7 : HP × Nat × Nat) : Option ((HP × Nat × Nat) ⊕ ((HP × Nat × Nat) ⊕ ((Nat × HP) ⊕ (Nat × Nat × HP)))) :=
  wt_bd (hgI v7.1 o_ [3] 2) fun f17 => wt_bd (hgI v7.1 o_ [3] 1) fun f19 => if f19 ≤ f17 then (some (.inr (.inl (v7.1, v7.2.1, v7.2.2)))) else (wt_ck (hcl v7.1 o_ = some 3) <| wt_bd (eX5_clause lit_ v7.1 o_ τ.2) fun w23 => wt_ck ((v7.2.1 + 7) ≤ 260 ∧ (v7.2.2 + 64) ≤ 3000) <| wt_rs w23 (fun o26 => wt_ck (hcl o26 o_ = some 3) <| wt_bd (eX5_need o26 o_ (59 : Int32)) fun w28 => wt_ck ((v7.2.1 + 8) ≤ 260 ∧ (v7.2.2 + 72) ≤ 3000) <| wt_rs w28 (fun o31 => wt_bd (hgI o31 τ.2 [1] 7) fun f32 => wt_bd (hp o31 τ.2 [1] 7 (.int ((f32 + (1 : Int32))))) fun τ34 => wt_ck (hcl τ34 o_ = some 3) <| wt_bd (eX5_sign τ34 o_) fun w37 => wt_ck ((v7.2.1 + 8) ≤ 260 ∧ (v7.2.2 + 72) ≤ 3000) <| some (.inl (w37.2, (v7.2.1 + 8), (v7.2.2 + 72)))) (fun x_ => wt_ck ((v7.2.1 + 8) ≤ 260 ∧ (v7.2.2 + 72) ≤ 3000) <| some (.inr (.inr (.inr x_))))) (fun x_ => wt_ck ((v7.2.1 + 7) ≤ 260 ∧ (v7.2.2 + 64) ≤ 3000) <| some (.inr (.inr (.inr x_)))))
noncomputable def eX5_law (lit_ : Nat → Nat) (τ : HP) (o_ : Nat) : Option ((Nat × HP) ⊕ (Nat × Nat × HP)) :=
  wt_lt (hnew τ (.inr (1, [.null, .null, .null, .null, .int 0, .int 0, .int 0, .int 0]))) fun τ1 => wt_bd (eX2_init τ1 τ.2) fun w2 => wt_ck (hcl w2 o_ = some 3) <| wt_bd (eX5_sign w2 o_) fun w5 => wt_bd (wt_whC (bX5_law_1 lit_ τ o_) (w5.2, 5, 118)) fun w8 => wt_rs w8 (fun w8 => wt_ck (w8.2.1 ≤ 260 ∧ w8.2.2 ≤ 3000) <| some (.inl (τ.2, w8.1))) (fun z_ => some z_)
set_option maxHeartbeats 4000000 in
theorem wX5_law (l : Launch) (hfl : l.stackTraces = false) {G : HG} {A : Nat → Prop} {τ : HP} {o_ : Nat} {out_ : (Nat × HP) ⊕ (Nat × Nat × HP)} (hd : eX5_law G.2.2 τ o_ = some out_) : vx_Met l yX5_law (ws_ yX5_law cX5_law 2 (some (.object "WoolThreads$Law"))) ({ frames := 8, cells := 260, slots := 3000, locals := 195 }) (hPc G A τ [.ref o_]) (hXr G A (fun r u => Sum.inl (r, u) = out_)) (hXX G A out_) 260 3000 A := by
  refine vx_ofW (cc := cX5_law) (maxL := 2) (ret := (some (.object "WoolThreads$Law"))) (by decide) rfl ?_
  intro p_ e_ s_ m_ args_ below_ meth_ c_ s₁_ B hml hno hv
  obtain ⟨rfl, hW, hC⟩ := hv
  have hx := B.exec
  have hb := B.bytes
  have hr := B.returns
  have hts := atoms_spec (ws := (ws_ yX5_law cX5_law 2 (some (.object "WoolThreads$Law")))) B.pre
  have hts : ∀ w ∈ lw_all, w.before _ s_ = true := fun w h => hts w (List.mem_cons_of_mem _ h)
  have hown : s_.vm.findClass RX5 = some m_.cls := findClass_of_methodNamed B.named
  have hlocks := B.notSynchronized
  have hK := hC.1
  have hT := hC.2.1
  have hL := hC.2.2.1
  have hZ := hC.2.2.2.2.1
  have hA := hC.2.2.2.2.2
  have hS : va_S A s_.heap s_.heap [] := va_S.rf
  have hl := lv_entry ([.ref o_]) (n := 2) (Nat.le_of_ble_eq_true rfl)
  rw [lg_entry_eq]
  generalize (lg_sl ([.ref o_]) ++ List.replicate (2 - (lg_sl ([.ref o_])).length) Slot.unset).toArray = ls at hl ⊢
  have hl : lv_has ls 2 [(0, .ref o_)] := hl
  unfold eX5_law at hd
  obtain ⟨τ1, eτ1, hd⟩ := wt_lt_o hd
  refine hr_new (pc := 0) (ci := 1) (fs := [.null, .null, .null, .null, .int 0, .int 0, .int 0, .int 0]) hx hb hts hown hK hW hS hA rfl tyX2 tyX2_ok (by decide +kernel) q713 q113 q67 eτ1 (Nat.le_of_ble_eq_true rfl) (Nat.le_of_ble_eq_true rfl) dX5_law_0 (fun H hW hS => ?_)
  refine lv_dup (pc := 3) hx hb dX5_law_3 rfl ?_
  obtain ⟨w2, hc3, hd⟩ := wt_bd_o hd
  refine kX2_init (pc := 4) hx hb hml hown hts hC hW hS hc3 hl.1 (Nat.le_of_ble_eq_true rfl) ⟨Nat.le_of_ble_eq_true rfl, Nat.le_of_ble_eq_true rfl⟩ ⟨(Nat.le_of_ble_eq_true rfl), (Nat.le_of_ble_eq_true rfl)⟩ q714 dX5_law_4 (fun H locs hW hS => ?_)
  refine lv_astore_n (pc := 7) (lv' := [(1, .ref (τ.2)), (0, .ref o_)]) hx hb dX5_law_7 rfl hl (by decide) rfl (fun ls hl => ?_)
  refine lv_aload_n (pc := 8) hx hb dX5_law_8 rfl (lv_at hl 1 rfl) ?_
  obtain ⟨h4, hd⟩ := wt_ck_o hd
  obtain ⟨w5, hc6, hd⟩ := wt_bd_o hd
  refine kX5_sign (pc := 9) hx hb hml hown hts hC hW hS h4 hc6 hl.1 (Nat.le_of_ble_eq_true rfl) ⟨Nat.le_of_ble_eq_true rfl, Nat.le_of_ble_eq_true rfl⟩ ⟨Nat.le_of_ble_eq_true rfl, Nat.le_of_ble_eq_true rfl⟩ q715 dX5_law_9 (fun H locs hW hS => ?_)
  refine lv_pop (pc := 12) hx hb dX5_law_12 rfl ?_
  obtain ⟨w8, hL9, hq10⟩ := wt_bd_o hd
  have hX11 : ∀ w8_ : HP × Nat × Nat, (Sum.inl w8_ : (HP × Nat × Nat) ⊕ _) = w8 → ∀ (H : Heap) (locs : List Loc) (ls : Array Slot), Hw G A w8_.1 H → va_S A s_.heap H locs → lv_has ls 2 [(1, .ref (τ.2))] → W p_ l e_ (headSpec (ws_ yX5_law cX5_law 2 (some (.object "WoolThreads$Law"))) ({ frames := 8, cells := 260, slots := 3000, locals := 195 })).room s_ m_ ([.ref o_] : List Value).toArray below_ meth_ c_ H locs w8_.2.1 w8_.2.2 (vx_MQ below_ (hXr G A (fun r u => Sum.inl (r, u) = out_)) (hXX G A out_) ([.ref o_] : List Value).toArray s_ 260 3000 A) (F0 m_ 53 ls []) := by
    intro w8_ hw_
    have hd := wt_rs_l hw_ hq10
    clear hL9 hq10
    intro H locs ls hW hS hl
    refine lv_aload_n (pc := 53) hx hb dX5_law_53 rfl (lv_at hl 0 rfl) ?_
    obtain ⟨h42, hd⟩ := wt_ck_o hd
    refine vx_ret ?_
    exact hx_aret hx hb hr (Or.inl ⟨_, rfl⟩) hlocks (Option.some.inj hd) hW hS dX5_law_54 (h42.1) (h42.2)
  have hI16 : ∀ (k15 : Nat) (v7 : HP × Nat × Nat), wt_wh (bX5_law_1 G.2.2 τ o_) k15 v7 = some w8 → ∀ (H : Heap) (locs : List Loc) (ls : Array Slot), Hw G A v7.1 H → va_S A s_.heap H locs → lv_has ls 2 [(0, .ref o_), (1, .ref (τ.2))] → W p_ l e_ (headSpec (ws_ yX5_law cX5_law 2 (some (.object "WoolThreads$Law"))) ({ frames := 8, cells := 260, slots := 3000, locals := 195 })).room s_ m_ ([.ref o_] : List Value).toArray below_ meth_ c_ H locs v7.2.1 v7.2.2 (vx_MQ below_ (hXr G A (fun r u => Sum.inl (r, u) = out_)) (hXX G A out_) ([.ref o_] : List Value).toArray s_ 260 3000 A) (F0 m_ 13 ls []) := by
    intro k15
    induction k15 with
    | zero => intro v7 hd; exact absurd hd wt_wh_z
    | succ k15 ih13 =>
      intro v7 hd
      intro H locs ls hW hS hl
      obtain ⟨r14, hd, hk12⟩ := wt_wh_o hd
      unfold bX5_law_1 at hd
      refine lv_aload_n (pc := 13) hx hb dX5_law_13 rfl (lv_at hl 0 rfl) ?_
      obtain ⟨f17, h18, hd⟩ := wt_bd_o hd
      refine hr_get (pc := 14) hx hb hts hown hK hW (hgI_o h18) hf_3_2 (fun _ h => h) q698 dX5_law_14 ?_
      refine lv_aload_n (pc := 17) hx hb dX5_law_17 rfl (lv_at hl 0 rfl) ?_
      obtain ⟨f19, h20, hd⟩ := wt_bd_o hd
      refine hr_get (pc := 18) hx hb hts hown hK hW (hgI_o h20) hf_3_1 (fun _ h => h) q697 dX5_law_18 ?_
      refine lv_icmp_ge (pc := 21) (tgt := 53) hx hb dX5_law_21 (by decide) (fun c21 => ?_) (fun c21 => ?_)
      · have hd := wt_it hd c21
        exact hX11 (v7.1, v7.2.1, v7.2.2) (wt_exit hd hk12) _ _ _ hW hS (lv_sub hl [1] rfl)
      · have hd := wt_if hd c21
        refine lv_aload_n (pc := 24) hx hb dX5_law_24 rfl (lv_at hl 0 rfl) ?_
        refine lv_aload_n (pc := 25) hx hb dX5_law_25 rfl (lv_at hl 1 rfl) ?_
        obtain ⟨h22, hd⟩ := wt_ck_o hd
        obtain ⟨w23, hc24, hd⟩ := wt_bd_o hd
        obtain ⟨h25, hd⟩ := wt_ck_o hd
        refine kX5_clause (pc := 26) hfl hx hb hml hown hts hC hW hS h22 hc24 hl.1 (Nat.le_of_ble_eq_true rfl) ⟨Nat.le_of_ble_eq_true rfl, Nat.le_of_ble_eq_true rfl⟩ ⟨h25.1, h25.2⟩ q719 dX5_law_26 (fun x_ hx_ E_ ce_ q9_ H locs hXB hS hce hvn hfc => ?_) (fun o26 ho_ H locs hW hS => ?_)
        · have hd := wt_rs_r hx_ hd
          obtain ⟨h41, hd⟩ := wt_ck_o hd
          have hd := wt_rs_r (wt_exit hd hk12) hq10
          exact hx_out (fun z hz => (hno z hz).elim) hlocks hce hvn hfc (Option.some.inj hd) hXB hS (h41.1) (h41.2)
        · have hd := wt_rs_l ho_ hd
          refine lv_aload_n (pc := 29) hx hb dX5_law_29 rfl (lv_at hl 0 rfl) ?_
          refine lv_bipush (pc := 30) (v := 59) hx hb dX5_law_30 (by decide) ?_
          obtain ⟨h27, hd⟩ := wt_ck_o hd
          obtain ⟨w28, hc29, hd⟩ := wt_bd_o hd
          obtain ⟨h30, hd⟩ := wt_ck_o hd
          refine kX5_need (pc := 32) hfl hx hb hml hown hts hC hW hS h27 hc29 hl.1 (Nat.le_of_ble_eq_true rfl) ⟨Nat.le_of_ble_eq_true rfl, Nat.le_of_ble_eq_true rfl⟩ ⟨h30.1, h30.2⟩ q873 dX5_law_32 (fun x_ hx_ E_ ce_ q9_ H locs hXB hS hce hvn hfc => ?_) (fun o31 ho_ H locs hW hS => ?_)
          · have hd := wt_rs_r hx_ hd
            obtain ⟨h40, hd⟩ := wt_ck_o hd
            have hd := wt_rs_r (wt_exit hd hk12) hq10
            exact hx_out (fun z hz => (hno z hz).elim) hlocks hce hvn hfc (Option.some.inj hd) hXB hS (h40.1) (h40.2)
          · have hd := wt_rs_l ho_ hd
            refine lv_aload_n (pc := 35) hx hb dX5_law_35 rfl (lv_at hl 1 rfl) ?_
            refine lv_dup (pc := 36) hx hb dX5_law_36 rfl ?_
            obtain ⟨f32, h33, hd⟩ := wt_bd_o hd
            refine hr_getN (pc := 37) hx hb hts hown hK hT hW (hgI_o h33) hf_1_7 (fun _ h => h) q143 dX5_law_37 ?_
            refine lv_iconst (pc := 40) (v := 1) hx hb dX5_law_40 (by decide) ?_
            refine lv_iadd (pc := 41) hx hb dX5_law_41 ?_
            obtain ⟨τ34, h35, hd⟩ := wt_bd_o hd
            refine hr_putN (pc := 42) (ty := .int) hx hb hts hown hK hT hW hS h35 hf_1_7 (by decide +kernel) rfl rfl (fun _ h => h) q143 dX5_law_42 (fun H locs hW hS => ?_)
            refine lv_aload_n (pc := 45) hx hb dX5_law_45 rfl (lv_at hl 0 rfl) ?_
            obtain ⟨h36, hd⟩ := wt_ck_o hd
            obtain ⟨w37, hc38, hd⟩ := wt_bd_o hd
            obtain ⟨h39, hd⟩ := wt_ck_o hd
            refine kX5_sign (pc := 46) hx hb hml hown hts hC hW hS h36 hc38 hl.1 (Nat.le_of_ble_eq_true rfl) ⟨Nat.le_of_ble_eq_true rfl, Nat.le_of_ble_eq_true rfl⟩ ⟨h39.1, h39.2⟩ q715 dX5_law_46 (fun H locs hW hS => ?_)
            refine lv_pop (pc := 49) hx hb dX5_law_49 rfl ?_
            refine lv_goto (pc := 50) (tgt := 13) hx hb dX5_law_50 (by decide) ?_
            exact ih13 _ (wt_again hd hk12) _ _ _ hW hS hl
  obtain ⟨k15, hL9⟩ := wt_whC_o hL9
  exact hI16 k15 _ hL9 _ _ _ hW hS (lv_sub hl [1, 0] rfl)
theorem kX5_law {p : Program} {l : Launch} {e : Env} {R : Room} {s : State} {m : MethodId} {args : Array Value} {below : List Frame} {meth : Method} {c : Code} {H : Heap} {locs : List Loc} {cells slots : Nat} {Q : State → Prop} {cc : ByteArray} {pc : Nat} {ls : Array Slot} {rest : List Value} {nL : Nat} {own : String} {index : Nat} {G : HG} {A : Nat → Prop} {τ : HP} {o_ : Nat} {out_ : (Nat × HP) ⊕ (Nat × Nat × HP)} (hfl : l.stackTraces = false) (hx : p.tables.exec = Jvm.exec) (hb : c.code = cc) (hml : c.maxLocals = nL) (hown : s.vm.findClass own = some m.cls) (hts : ∀ w ∈ lw_all, w.before args s = true) (hC : Hcx G A s) (hW : Hw G A τ H) (hS : va_S A s.heap H locs) (hrc : hcl τ o_ = some 3) (hd : eX5_law G.2.2 τ o_ = some out_) (hsz : ls.size = nL) (hrm : (rest.map fun v => v.category).sum ≤ 8) (hR : 9 ≤ R.frames ∧ 216 ≤ R.locals) (hcs : (cells + 260) ≤ R.cells ∧ (slots + 3000) ≤ R.slots) (hlk : Cond.methodLink own index yX5_law ∈ lw_all) (hdg : decode cc pc = .ok (.invokevirtual index, 3)) (kx : ∀ x_ : Nat × Nat × HP, Sum.inr x_ = out_ → ∀ (E : String) (ce : Cell) (q9 : Addr) (H1 : Heap) (locs1 : List Loc), hXb G A E q9 x_ H1 → va_S A s.heap H1 locs1 → H1[q9]? = some ce → ce.vm = .none → s.vm.findClass E = some ce.cls → vx_W p l e R s m args below meth c H1 locs1 (cells + 260) (slots + 3000) Q (F0 m pc ls rest) q9) (kk : ∀ o_1 : Nat × HP, Sum.inl o_1 = out_ → ∀ (H1 : Heap) (locs1 : List Loc), Hw G A o_1.2 H1 → va_S A s.heap H1 locs1 → W p l e R s m args below meth c H1 locs1 (cells + 260) (slots + 3000) Q (F0 m (pc + 3) ls (.ref o_1.1 :: rest))) : W p l e R s m args below meth c H locs cells slots Q (F0 m pc ls (.ref o_ :: rest)) := by
  refine vx_callr (vx_runV (As := []) (rest := rest) ⟨hx, hb, hml, hown, hts⟩ (wX5_law l hfl hd) (cwV 0 hts (lw_V hlk q710 q711 q89 q712) rfl rfl rfl (by decide +kernel) hR) (hr_preV hC hW hS hrc rfl rfl) rfl rfl hsz rfl (lv_room hrm) hdg hcs) hS (fun _ _ h => h) (fun _ h => h) (fun _ _ h => h) (fun E ce q9 u t H1 locs1 ht hvm hp hB hz hk hS1 hce hvn hfc => ?_) (fun u ra t H1 locs1 ht hvm hp hB hz hk hS1 => ?_)
  · rw [ht] at hB
    exact kx u hp E ce q9 H1 locs1 hB hS1 hce hvn hfc
  · have hW1 : Hw G A u t.heap := hB.2
    rw [ht] at hW1
    exact kk (ra, u) hB.1 H1 locs1 hW1 hS1
noncomputable def eX5_needWord (τ : HP) (o_ : Nat) (a0 : Nat) : Option ((HP) ⊕ (Nat × Nat × HP)) :=
  wt_ck (hcl τ o_ = some 3) <| wt_bd (eX5_word τ o_) fun w2 => wt_ck (hcl w2.2 w2.1 = some 15) <| wt_bd (eJ9_equals w2.2 w2.1 a0) fun w5 => if w5 = 0 then (wt_ck (hcl w2.2 o_ = some 3) <| wt_bd (eX5_wrong w2.2 o_) fun w16 => wt_ck (hcl w16.2 w16.1 = some 4) <| some (.inr (4, w16.1, w16.2))) else (wt_bd (hgI w2.2 o_ [3] 2) fun f8 => wt_ck (hcl w2.2 a0 = some 16) <| wt_bd (eL9_length w2.2 a0) fun w11 => wt_bd (hp w2.2 o_ [3] 2 (.int ((f8 + w11)))) fun τ13 => some (.inl (τ13)))
set_option maxHeartbeats 4000000 in
theorem wX5_needWord (l : Launch) (hfl : l.stackTraces = false) {G : HG} {A : Nat → Prop} {τ : HP} {o_ : Nat} {a0 : Nat} {out_ : (HP) ⊕ (Nat × Nat × HP)} (hd : eX5_needWord τ o_ a0 = some out_) : vx_Met l yX5_needWord (ws_ yX5_needWord cX5_needWord 2 none) ({ frames := 7, cells := 5, slots := 48, locals := 165 }) (hPc G A τ [.ref o_, .ref a0]) (hXv G A (fun u => Sum.inl u = out_)) (hXX G A out_) 5 48 A := by
  refine vx_ofW (cc := cX5_needWord) (maxL := 2) (ret := none) (by decide) rfl ?_
  intro p_ e_ s_ m_ args_ below_ meth_ c_ s₁_ B hml hno hv
  obtain ⟨rfl, hW, hC⟩ := hv
  have hx := B.exec
  have hb := B.bytes
  have hr := B.returns
  have hts := atoms_spec (ws := (ws_ yX5_needWord cX5_needWord 2 none)) B.pre
  have hts : ∀ w ∈ lw_all, w.before _ s_ = true := fun w h => hts w (List.mem_cons_of_mem _ h)
  have hown : s_.vm.findClass RX5 = some m_.cls := findClass_of_methodNamed B.named
  have hlocks := B.notSynchronized
  have hK := hC.1
  have hT := hC.2.1
  have hL := hC.2.2.1
  have hZ := hC.2.2.2.2.1
  have hA := hC.2.2.2.2.2
  have hS : va_S A s_.heap s_.heap [] := va_S.rf
  have hl := lv_entry ([.ref o_, .ref a0]) (n := 2) (Nat.le_of_ble_eq_true rfl)
  rw [lg_entry_eq]
  generalize (lg_sl ([.ref o_, .ref a0]) ++ List.replicate (2 - (lg_sl ([.ref o_, .ref a0])).length) Slot.unset).toArray = ls at hl ⊢
  have hl : lv_has ls 2 [(0, .ref o_), (1, .ref a0)] := hl
  unfold eX5_needWord at hd
  refine lv_aload_n (pc := 0) hx hb dX5_needWord_0 rfl (lv_at hl 0 rfl) ?_
  obtain ⟨h1, hd⟩ := wt_ck_o hd
  obtain ⟨w2, hc3, hd⟩ := wt_bd_o hd
  refine kX5_word (pc := 1) hx hb hml hown hts hC hW hS h1 hc3 hl.1 (Nat.le_of_ble_eq_true rfl) ⟨Nat.le_of_ble_eq_true rfl, Nat.le_of_ble_eq_true rfl⟩ ⟨(Nat.le_of_ble_eq_true rfl), (Nat.le_of_ble_eq_true rfl)⟩ q723 dX5_needWord_1 (fun H locs hW hS => ?_)
  refine lv_aload_n (pc := 4) hx hb dX5_needWord_4 rfl (lv_at hl 1 rfl) ?_
  obtain ⟨h4, hd⟩ := wt_ck_o hd
  obtain ⟨w5, hc6, hd⟩ := wt_bd_o hd
  refine kJ9_equals (pc := 5) hx hb hml hown hts hC hW hS h4 hc6 hl.1 (Nat.le_of_ble_eq_true rfl) ⟨Nat.le_of_ble_eq_true rfl, Nat.le_of_ble_eq_true rfl⟩ ⟨Nat.le_of_ble_eq_true rfl, Nat.le_of_ble_eq_true rfl⟩ q813 dX5_needWord_5 (fun H locs hW hS => ?_)
  refine lv_if_ne (pc := 8) (tgt := 16) hx hb dX5_needWord_8 (by decide) (fun c7 => ?_) (fun c7 => ?_)
  · have hd := wt_if hd c7
    refine lv_aload_n (pc := 16) hx hb dX5_needWord_16 rfl (lv_at hl 0 rfl) ?_
    refine lv_dup (pc := 17) hx hb dX5_needWord_17 rfl ?_
    obtain ⟨f8, h9, hd⟩ := wt_bd_o hd
    refine hr_get (pc := 18) hx hb hts hown hK hW (hgI_o h9) hf_3_2 (fun _ h => h) q698 dX5_needWord_18 ?_
    refine lv_aload_n (pc := 21) hx hb dX5_needWord_21 rfl (lv_at hl 1 rfl) ?_
    obtain ⟨h10, hd⟩ := wt_ck_o hd
    obtain ⟨w11, hc12, hd⟩ := wt_bd_o hd
    refine kL9_length (pc := 22) hx hb hml hown hts hC hW hS h10 hc12 hl.1 (Nat.le_of_ble_eq_true rfl) ⟨Nat.le_of_ble_eq_true rfl, Nat.le_of_ble_eq_true rfl⟩ ⟨Nat.le_of_ble_eq_true rfl, Nat.le_of_ble_eq_true rfl⟩ q859 dX5_needWord_22 (fun H locs hW hS => ?_)
    refine lv_iadd (pc := 25) hx hb dX5_needWord_25 ?_
    obtain ⟨τ13, h14, hd⟩ := wt_bd_o hd
    refine hr_put (pc := 26) (ty := .int) hx hb hts hown hK hW hS h14 hf_3_2 (by decide +kernel) rfl rfl (fun _ h => h) q698 dX5_needWord_26 (fun H locs hW hS => ?_)
    refine vx_ret ?_
    exact hx_vret hx hb hr hlocks (Option.some.inj hd) hW hS dX5_needWord_29 (Nat.le_of_ble_eq_true rfl) (Nat.le_of_ble_eq_true rfl)
  · have hd := wt_it hd c7
    refine lv_aload_n (pc := 11) hx hb dX5_needWord_11 rfl (lv_at hl 0 rfl) ?_
    obtain ⟨h15, hd⟩ := wt_ck_o hd
    obtain ⟨w16, hc17, hd⟩ := wt_bd_o hd
    refine kX5_wrong (pc := 12) hx hb hml hown hts hC hW hS h15 hc17 hl.1 (Nat.le_of_ble_eq_true rfl) ⟨Nat.le_of_ble_eq_true rfl, Nat.le_of_ble_eq_true rfl⟩ ⟨(Nat.le_of_ble_eq_true rfl), (Nat.le_of_ble_eq_true rfl)⟩ q827 dX5_needWord_12 (fun H locs hW hS => ?_)
    obtain ⟨h18, hd⟩ := wt_ck_o hd
    exact hx_throwW (pc := 15) hx hb hC hno hlocks h18 (Option.some.inj hd) hW hS dX5_needWord_15 (Nat.le_of_ble_eq_true rfl) (Nat.le_of_ble_eq_true rfl)
theorem kX5_needWord {p : Program} {l : Launch} {e : Env} {R : Room} {s : State} {m : MethodId} {args : Array Value} {below : List Frame} {meth : Method} {c : Code} {H : Heap} {locs : List Loc} {cells slots : Nat} {Q : State → Prop} {cc : ByteArray} {pc : Nat} {ls : Array Slot} {rest : List Value} {nL : Nat} {own : String} {index : Nat} {G : HG} {A : Nat → Prop} {τ : HP} {o_ : Nat} {a0 : Nat} {out_ : (HP) ⊕ (Nat × Nat × HP)} (hfl : l.stackTraces = false) (hx : p.tables.exec = Jvm.exec) (hb : c.code = cc) (hml : c.maxLocals = nL) (hown : s.vm.findClass own = some m.cls) (hts : ∀ w ∈ lw_all, w.before args s = true) (hC : Hcx G A s) (hW : Hw G A τ H) (hS : va_S A s.heap H locs) (hrc : hcl τ o_ = some 3) (hd : eX5_needWord τ o_ a0 = some out_) (hsz : ls.size = nL) (hrm : (rest.map fun v => v.category).sum ≤ 8) (hR : 8 ≤ R.frames ∧ 186 ≤ R.locals) (hcs : (cells + 5) ≤ R.cells ∧ (slots + 48) ≤ R.slots) (hlk : Cond.methodLink own index yX5_needWord ∈ lw_all) (hdg : decode cc pc = .ok (.invokevirtual index, 3)) (kx : ∀ x_ : Nat × Nat × HP, Sum.inr x_ = out_ → ∀ (E : String) (ce : Cell) (q9 : Addr) (H1 : Heap) (locs1 : List Loc), hXb G A E q9 x_ H1 → va_S A s.heap H1 locs1 → H1[q9]? = some ce → ce.vm = .none → s.vm.findClass E = some ce.cls → vx_W p l e R s m args below meth c H1 locs1 (cells + 5) (slots + 48) Q (F0 m pc ls rest) q9) (kk : ∀ o_1 : HP, Sum.inl o_1 = out_ → ∀ (H1 : Heap) (locs1 : List Loc), Hw G A o_1 H1 → va_S A s.heap H1 locs1 → W p l e R s m args below meth c H1 locs1 (cells + 5) (slots + 48) Q (F0 m (pc + 3) ls (rest))) : W p l e R s m args below meth c H locs cells slots Q (F0 m pc ls (.ref a0 :: .ref o_ :: rest)) := by
  refine vx_callv (vx_runV (As := [.ref a0]) (rest := rest) ⟨hx, hb, hml, hown, hts⟩ (wX5_needWord l hfl hd) (cwV 1 hts (lw_V hlk q908 qs14 q89 q909) rfl rfl rfl (by decide +kernel) hR) (hr_preV hC hW hS hrc rfl rfl) rfl rfl hsz rfl (lv_room hrm) hdg hcs) hS (fun _ _ h => h) (fun _ h => h) (fun _ _ h => h) (fun E ce q9 u t H1 locs1 ht hvm hp hB hz hk hS1 hce hvn hfc => ?_) (fun u t H1 locs1 ht hvm hp hB hz hk hS1 => ?_)
  · rw [ht] at hB
    exact kx u hp E ce q9 H1 locs1 hB hS1 hce hvn hfc
  · have hW1 : Hw G A u t.heap := hB
    rw [ht] at hW1
    exact kk u hp H1 locs1 hW1 hS1
noncomputable def eX5_at (lit_ : Nat → Nat) (τ : HP) (o_ : Nat) (a0 : Nat) : Option ((Int32 × HP) ⊕ (Nat × Nat × HP)) :=
  wt_ck (hcl τ o_ = some 3) <| wt_bd (eX5_needWord τ o_ (lit_ 132)) fun w2 => wt_rs w2 (fun o4 => wt_ck (hcl o4 o_ = some 3) <| wt_bd (eX5_number o4 o_ (0 : Int32) (99 : Int32)) fun w6 => wt_rs w6 (fun o8 => wt_ck (hcl o8.2 a0 = some 13) <| wt_bd (eJ2_isEmpty o8.2 a0) fun w10 => if w10 = 0 then (wt_ck (hcl o8.2 a0 = some 13) <| wt_bd (eJ2_size o8.2 a0) fun w14 => wt_ck (hcl o8.2 a0 = some 13) <| wt_bd (eJ2_get o8.2 a0 (w14 - (1 : Int32))) fun w17 => wt_bd (hcl o8.2 w17) fun c19 => wt_ck (hev c19 = true) <| wt_bd (hgI o8.2 w17 [5, 6, 7] 1) fun f22 => if f22 ≤ o8.1 then (some (.inl (o8.1, o8.2))) else (wt_lt (hnew o8.2 (.inr (4, [.null, .null, .null, .null, .null, .int 0, .int 0, .int 0]))) fun τ25 => wt_bd (hgI τ25 o_ [3] 3) fun f26 => wt_bd (eX6_init τ25 o8.2.2 (3 : Int32) f26) fun w28 => wt_ck (hcl w28 o8.2.2 = some 4) <| some (.inr (4, o8.2.2, w28)))) else (some (.inl (o8.1, o8.2)))) (fun x_ => some (.inr x_))) (fun x_ => some (.inr x_))
set_option maxHeartbeats 4000000 in
theorem wX5_at (l : Launch) (hfl : l.stackTraces = false) {G : HG} {A : Nat → Prop} {τ : HP} {o_ : Nat} {a0 : Nat} {out_ : (Int32 × HP) ⊕ (Nat × Nat × HP)} (hd : eX5_at G.2.2 τ o_ a0 = some out_) : vx_Met l yX5_at (ws_ yX5_at cX5_at 3 (some .int)) ({ frames := 8, cells := 7, slots := 64, locals := 186 }) (hPc G A τ [.ref o_, .ref a0]) (hXi G A (fun r u => Sum.inl (r, u) = out_)) (hXX G A out_) 7 64 A := by
  refine vx_ofW (cc := cX5_at) (maxL := 3) (ret := (some .int)) (by decide) rfl ?_
  intro p_ e_ s_ m_ args_ below_ meth_ c_ s₁_ B hml hno hv
  obtain ⟨rfl, hW, hC⟩ := hv
  have hx := B.exec
  have hb := B.bytes
  have hr := B.returns
  have hts := atoms_spec (ws := (ws_ yX5_at cX5_at 3 (some .int))) B.pre
  have hts : ∀ w ∈ lw_all, w.before _ s_ = true := fun w h => hts w (List.mem_cons_of_mem _ h)
  have hown : s_.vm.findClass RX5 = some m_.cls := findClass_of_methodNamed B.named
  have hlocks := B.notSynchronized
  have hK := hC.1
  have hT := hC.2.1
  have hL := hC.2.2.1
  have hZ := hC.2.2.2.2.1
  have hA := hC.2.2.2.2.2
  have hS : va_S A s_.heap s_.heap [] := va_S.rf
  have hl := lv_entry ([.ref o_, .ref a0]) (n := 3) (Nat.le_of_ble_eq_true rfl)
  rw [lg_entry_eq]
  generalize (lg_sl ([.ref o_, .ref a0]) ++ List.replicate (3 - (lg_sl ([.ref o_, .ref a0])).length) Slot.unset).toArray = ls at hl ⊢
  have hl : lv_has ls 3 [(0, .ref o_), (1, .ref a0)] := hl
  unfold eX5_at at hd
  refine lv_aload_n (pc := 0) hx hb dX5_at_0 rfl (lv_at hl 0 rfl) ?_
  refine va_ldcS (pc := 1) hx hb hown (hL (132, "at") (by decide)) dX5_at_1 ?_
  obtain ⟨h1, hd⟩ := wt_ck_o hd
  obtain ⟨w2, hc3, hd⟩ := wt_bd_o hd
  refine kX5_needWord (pc := 3) hfl hx hb hml hown hts hC hW hS h1 hc3 hl.1 (Nat.le_of_ble_eq_true rfl) ⟨Nat.le_of_ble_eq_true rfl, Nat.le_of_ble_eq_true rfl⟩ ⟨(Nat.le_of_ble_eq_true rfl), (Nat.le_of_ble_eq_true rfl)⟩ q906 dX5_at_3 (fun x_ hx_ E_ ce_ q9_ H locs hXB hS hce hvn hfc => ?_) (fun o4 ho_ H locs hW hS => ?_)
  · have hd := wt_rs_r hx_ hd
    exact hx_out (fun z hz => (hno z hz).elim) hlocks hce hvn hfc (Option.some.inj hd) hXB hS (Nat.le_of_ble_eq_true rfl) (Nat.le_of_ble_eq_true rfl)
  · have hd := wt_rs_l ho_ hd
    refine lv_aload_n (pc := 6) hx hb dX5_at_6 rfl (lv_at hl 0 rfl) ?_
    refine lv_iconst (pc := 7) (v := 0) hx hb dX5_at_7 (by decide) ?_
    refine lv_bipush (pc := 8) (v := 99) hx hb dX5_at_8 (by decide) ?_
    obtain ⟨h5, hd⟩ := wt_ck_o hd
    obtain ⟨w6, hc7, hd⟩ := wt_bd_o hd
    refine kX5_number (pc := 10) hfl hx hb hml hown hts hC hW hS h5 hc7 hl.1 (Nat.le_of_ble_eq_true rfl) ⟨Nat.le_of_ble_eq_true rfl, Nat.le_of_ble_eq_true rfl⟩ ⟨(Nat.le_of_ble_eq_true rfl), (Nat.le_of_ble_eq_true rfl)⟩ q860 dX5_at_10 (fun x_ hx_ E_ ce_ q9_ H locs hXB hS hce hvn hfc => ?_) (fun o8 ho_ H locs hW hS => ?_)
    · have hd := wt_rs_r hx_ hd
      exact hx_out (fun z hz => (hno z hz).elim) hlocks hce hvn hfc (Option.some.inj hd) hXB hS (Nat.le_of_ble_eq_true rfl) (Nat.le_of_ble_eq_true rfl)
    · have hd := wt_rs_l ho_ hd
      refine lv_istore_n (pc := 13) (lv' := [(2, .int o8.1), (0, .ref o_), (1, .ref a0)]) hx hb dX5_at_13 rfl hl (by decide) rfl (fun ls hl => ?_)
      refine lv_aload_n (pc := 14) hx hb dX5_at_14 rfl (lv_at hl 2 rfl) ?_
      obtain ⟨h9, hd⟩ := wt_ck_o hd
      obtain ⟨w10, hc11, hd⟩ := wt_bd_o hd
      refine kJ2_isEmpty (pc := 15) hx hb hml hown hts hC hW hS h9 hc11 hl.1 (Nat.le_of_ble_eq_true rfl) ⟨Nat.le_of_ble_eq_true rfl, Nat.le_of_ble_eq_true rfl⟩ ⟨Nat.le_of_ble_eq_true rfl, Nat.le_of_ble_eq_true rfl⟩ q910 dX5_at_15 (fun H locs hW hS => ?_)
      refine lv_if_ne (pc := 18) (tgt := 54) hx hb dX5_at_18 (by decide) (fun c12 => ?_) (fun c12 => ?_)
      · have hd := wt_if hd c12
        refine lv_iload_n (pc := 54) hx hb dX5_at_54 rfl (lv_at hl 0 rfl) ?_
        refine vx_ret ?_
        exact hx_iret hx hb hr rfl hlocks (Option.some.inj hd) hW hS dX5_at_55 (Nat.le_of_ble_eq_true rfl) (Nat.le_of_ble_eq_true rfl)
      · have hd := wt_it hd c12
        refine lv_iload_n (pc := 21) hx hb dX5_at_21 rfl (lv_at hl 0 rfl) ?_
        refine lv_aload_n (pc := 22) hx hb dX5_at_22 rfl (lv_at hl 2 rfl) ?_
        refine lv_aload_n (pc := 23) hx hb dX5_at_23 rfl (lv_at hl 2 rfl) ?_
        obtain ⟨h13, hd⟩ := wt_ck_o hd
        obtain ⟨w14, hc15, hd⟩ := wt_bd_o hd
        refine kJ2_size (pc := 24) hx hb hml hown hts hC hW hS h13 hc15 hl.1 (Nat.le_of_ble_eq_true rfl) ⟨Nat.le_of_ble_eq_true rfl, Nat.le_of_ble_eq_true rfl⟩ ⟨Nat.le_of_ble_eq_true rfl, Nat.le_of_ble_eq_true rfl⟩ q898 dX5_at_24 (fun H locs hW hS => ?_)
        refine lv_iconst (pc := 27) (v := 1) hx hb dX5_at_27 (by decide) ?_
        refine lv_isub (pc := 28) hx hb dX5_at_28 ?_
        obtain ⟨h16, hd⟩ := wt_ck_o hd
        obtain ⟨w17, hc18, hd⟩ := wt_bd_o hd
        refine kJ2_get (pc := 29) hx hb hml hown hts hC hW hS h16 hc18 hl.1 (Nat.le_of_ble_eq_true rfl) ⟨Nat.le_of_ble_eq_true rfl, Nat.le_of_ble_eq_true rfl⟩ ⟨Nat.le_of_ble_eq_true rfl, Nat.le_of_ble_eq_true rfl⟩ q914 dX5_at_29 (fun H locs hW hS => ?_)
        obtain ⟨c19, h20, hd⟩ := wt_bd_o hd
        obtain ⟨h21, hd⟩ := wt_ck_o hd
        refine hr_castE (pc := 32) hx hb hts hown hC hW h20 h21 q915 dX5_at_32 ?_
        obtain ⟨f22, h23, hd⟩ := wt_bd_o hd
        refine hr_get (pc := 35) hx hb hts hown hK hW (hgI_o h23) hf_5_6_7_1 (fun _ h => h) q934 dX5_at_35 ?_
        refine lv_icmp_ge (pc := 38) (tgt := 54) hx hb dX5_at_38 (by decide) (fun c24 => ?_) (fun c24 => ?_)
        · have hd := wt_it hd c24
          refine lv_iload_n (pc := 54) hx hb dX5_at_54 rfl (lv_at hl 0 rfl) ?_
          refine vx_ret ?_
          exact hx_iret hx hb hr rfl hlocks (Option.some.inj hd) hW hS dX5_at_55 (Nat.le_of_ble_eq_true rfl) (Nat.le_of_ble_eq_true rfl)
        · have hd := wt_if hd c24
          obtain ⟨τ25, eτ25, hd⟩ := wt_lt_o hd
          refine hr_new (pc := 41) (ci := 4) (fs := [.null, .null, .null, .null, .null, .int 0, .int 0, .int 0]) hx hb hts hown hK hW hS hA rfl tyX6 tyX6_ok (by decide +kernel) q831 q832 q90 eτ25 (Nat.le_of_ble_eq_true rfl) (Nat.le_of_ble_eq_true rfl) dX5_at_41 (fun H hW hS => ?_)
          refine lv_dup (pc := 44) hx hb dX5_at_44 rfl ?_
          refine lv_iconst (pc := 45) (v := 3) hx hb dX5_at_45 (by decide) ?_
          refine lv_aload_n (pc := 46) hx hb dX5_at_46 rfl (lv_at hl 1 rfl) ?_
          obtain ⟨f26, h27, hd⟩ := wt_bd_o hd
          refine hr_get (pc := 47) hx hb hts hown hK hW (hgI_o h27) hf_3_3 (fun _ h => h) q699 dX5_at_47 ?_
          obtain ⟨w28, hc29, hd⟩ := wt_bd_o hd
          refine kX6_init (pc := 50) hx hb hml hown hts hC hW hS hc29 hl.1 (Nat.le_of_ble_eq_true rfl) ⟨Nat.le_of_ble_eq_true rfl, Nat.le_of_ble_eq_true rfl⟩ ⟨Nat.le_of_ble_eq_true rfl, Nat.le_of_ble_eq_true rfl⟩ q840 dX5_at_50 (fun H locs hW hS => ?_)
          obtain ⟨h30, hd⟩ := wt_ck_o hd
          exact hx_throwW (pc := 53) hx hb hC hno hlocks h30 (Option.some.inj hd) hW hS dX5_at_53 (Nat.le_of_ble_eq_true rfl) (Nat.le_of_ble_eq_true rfl)
theorem kX5_at {p : Program} {l : Launch} {e : Env} {R : Room} {s : State} {m : MethodId} {args : Array Value} {below : List Frame} {meth : Method} {c : Code} {H : Heap} {locs : List Loc} {cells slots : Nat} {Q : State → Prop} {cc : ByteArray} {pc : Nat} {ls : Array Slot} {rest : List Value} {nL : Nat} {own : String} {index : Nat} {G : HG} {A : Nat → Prop} {τ : HP} {o_ : Nat} {a0 : Nat} {out_ : (Int32 × HP) ⊕ (Nat × Nat × HP)} (hfl : l.stackTraces = false) (hx : p.tables.exec = Jvm.exec) (hb : c.code = cc) (hml : c.maxLocals = nL) (hown : s.vm.findClass own = some m.cls) (hts : ∀ w ∈ lw_all, w.before args s = true) (hC : Hcx G A s) (hW : Hw G A τ H) (hS : va_S A s.heap H locs) (hrc : hcl τ o_ = some 3) (hd : eX5_at G.2.2 τ o_ a0 = some out_) (hsz : ls.size = nL) (hrm : (rest.map fun v => v.category).sum ≤ 8) (hR : 9 ≤ R.frames ∧ 208 ≤ R.locals) (hcs : (cells + 7) ≤ R.cells ∧ (slots + 64) ≤ R.slots) (hlk : Cond.methodLink own index yX5_at ∈ lw_all) (hdg : decode cc pc = .ok (.invokevirtual index, 3)) (kx : ∀ x_ : Nat × Nat × HP, Sum.inr x_ = out_ → ∀ (E : String) (ce : Cell) (q9 : Addr) (H1 : Heap) (locs1 : List Loc), hXb G A E q9 x_ H1 → va_S A s.heap H1 locs1 → H1[q9]? = some ce → ce.vm = .none → s.vm.findClass E = some ce.cls → vx_W p l e R s m args below meth c H1 locs1 (cells + 7) (slots + 64) Q (F0 m pc ls rest) q9) (kk : ∀ o_1 : Int32 × HP, Sum.inl o_1 = out_ → ∀ (H1 : Heap) (locs1 : List Loc), Hw G A o_1.2 H1 → va_S A s.heap H1 locs1 → W p l e R s m args below meth c H1 locs1 (cells + 7) (slots + 64) Q (F0 m (pc + 3) ls (.int o_1.1 :: rest))) : W p l e R s m args below meth c H locs cells slots Q (F0 m pc ls (.ref a0 :: .ref o_ :: rest)) := by
  refine vx_calli (vx_runV (As := [.ref a0]) (rest := rest) ⟨hx, hb, hml, hown, hts⟩ (wX5_at l hfl hd) (cwV 1 hts (lw_V hlk q903 qs13 q89 q904) rfl rfl rfl (by decide +kernel) hR) (hr_preV hC hW hS hrc rfl rfl) rfl rfl hsz rfl (lv_room hrm) hdg hcs) hS (fun _ _ h => h) (fun _ h => h) (fun _ _ h => h) (fun E ce q9 u t H1 locs1 ht hvm hp hB hz hk hS1 hce hvn hfc => ?_) (fun r u t H1 locs1 ht hvm hp hB hz hk hS1 => ?_)
  · rw [ht] at hB
    exact kx u hp E ce q9 H1 locs1 hB hS1 hce hvn hfc
  · have hW1 : Hw G A u t.heap := hB
    rw [ht] at hW1
    exact kk (r, u) hp H1 locs1 hW1 hS1
noncomputable def eX5_event (lit_ : Nat → Nat) (τ : HP) (o_ : Nat) (a0 : Nat) : Option ((Nat × HP) ⊕ (Nat × Nat × HP)) :=
  wt_ck (hcl τ o_ = some 3) <| wt_bd (eX5_word τ o_) fun w2 => wt_ck (hcl w2.2 w2.1 = some 15) <| wt_bd (eJ9_hashCode w2.2 w2.1) fun w5 => wt_bd (if w5.1 = (3016370 : Int32) then (wt_ck (hcl w5.2 w2.1 = some 15) <| wt_bd (eJ9_equals w5.2 w2.1 (lit_ 155)) fun w13 => if w13 = 0 then (some (-1 : Int32)) else (some (1 : Int32))) else (if w5.1 = (3642015 : Int32) then (wt_ck (hcl w5.2 w2.1 = some 15) <| wt_bd (eJ9_equals w5.2 w2.1 (lit_ 92)) fun w18 => if w18 = 0 then (some (-1 : Int32)) else (some (3 : Int32))) else (if w5.1 = (3645311 : Int32) then (wt_ck (hcl w5.2 w2.1 = some 15) <| wt_bd (eJ9_equals w5.2 w2.1 (lit_ 153)) fun w23 => if w23 = 0 then (some (-1 : Int32)) else (some (0 : Int32))) else (if w5.1 = (109399814 : Int32) then (wt_ck (hcl w5.2 w2.1 = some 15) <| wt_bd (eJ9_equals w5.2 w2.1 (lit_ 159)) fun w28 => if w28 = 0 then (some (-1 : Int32)) else (some (4 : Int32))) else (if w5.1 = (110550847 : Int32) then (wt_ck (hcl w5.2 w2.1 = some 15) <| wt_bd (eJ9_equals w5.2 w2.1 (lit_ 157)) fun w33 => if w33 = 0 then (some (-1 : Int32)) else (some (2 : Int32))) else (some (-1 : Int32))))))) fun w7 => wt_bd (if w7 = (0 : Int32) then (some (.inl ())) else (if w7 = (1 : Int32) then (some (.inl ())) else (if w7 = (2 : Int32) then (some (.inl ())) else (if w7 = (3 : Int32) then (some (.inl ())) else (if w7 = (4 : Int32) then (some (.inl ())) else (wt_ck (hcl w5.2 o_ = some 3) <| wt_bd (eX5_wrong w5.2 o_) fun w46 => wt_ck (hcl w46.2 w46.1 = some 4) <| some (.inr (.inr (4, w46.1, w46.2))))))))) fun w36 => wt_rs w36 (fun w36 => wt_ck (hcl w5.2 a0 = some 13) <| wt_bd (eJ2_size w5.2 a0) fun w50 => if w50 = (20 : Int32) then (wt_lt (hnew w5.2 (.inr (4, [.null, .null, .null, .null, .null, .int 0, .int 0, .int 0]))) fun τ142 => wt_bd (hgI τ142 o_ [3] 2) fun f143 => wt_bd (eX6_init τ142 w5.2.2 (3 : Int32) f143) fun w145 => wt_ck (hcl w145 w5.2.2 = some 4) <| some (.inr (4, w5.2.2, w145))) else (wt_bd (hgI w5.2 o_ [3] 2) fun f53 => wt_ck (hcl w5.2 w2.1 = some 15) <| wt_bd (eJ9_length w5.2 w2.1) fun w56 => wt_bd (hp w5.2 o_ [3] 2 (.int ((f53 + w56)))) fun τ58 => wt_ck (hcl τ58 o_ = some 3) <| wt_bd (eX5_number τ58 o_ (0 : Int32) (9 : Int32)) fun w61 => wt_rs w61 (fun o63 => wt_ck (hcl o63.2 w2.1 = some 15) <| wt_bd (eJ9_hashCode o63.2 w2.1) fun w65 => wt_bd (if w65.1 = (3016370 : Int32) then (wt_ck (hcl w65.2 w2.1 = some 15) <| wt_bd (eJ9_equals w65.2 w2.1 (lit_ 155)) fun w73 => if w73 = 0 then (some (-1 : Int32)) else (some (1 : Int32))) else (if w65.1 = (3642015 : Int32) then (wt_ck (hcl w65.2 w2.1 = some 15) <| wt_bd (eJ9_equals w65.2 w2.1 (lit_ 92)) fun w78 => if w78 = 0 then (some (-1 : Int32)) else (some (3 : Int32))) else (if w65.1 = (3645311 : Int32) then (wt_ck (hcl w65.2 w2.1 = some 15) <| wt_bd (eJ9_equals w65.2 w2.1 (lit_ 153)) fun w83 => if w83 = 0 then (some (-1 : Int32)) else (some (0 : Int32))) else (if w65.1 = (110550847 : Int32) then (wt_ck (hcl w65.2 w2.1 = some 15) <| wt_bd (eJ9_equals w65.2 w2.1 (lit_ 157)) fun w88 => if w88 = 0 then (some (-1 : Int32)) else (some (2 : Int32))) else (some (-1 : Int32)))))) fun w67 => if w67 = (0 : Int32) then (wt_ck (hcl w65.2 o_ = some 3) <| wt_bd (eX5_number w65.2 o_ (0 : Int32) (7 : Int32)) fun w93 => wt_rs w93 (fun o95 => wt_lt (hnew o95.2 (.inr (5, [.int 0, .int 0, .int 0]))) fun τ96 => wt_ck (hcl τ96 o_ = some 3) <| wt_bd (eX5_at lit_ τ96 o_ a0) fun w98 => wt_rs w98 (fun o100 => wt_bd (eX8_init o100.2 o95.2.2 o63.1 o95.1 o100.1) fun w101 => some (.inl (o95.2.2, w101))) (fun x_ => some (.inr x_))) (fun x_ => some (.inr x_))) else (if w67 = (1 : Int32) then (wt_lt (hnew w65.2 (.inr (5, [.int 0, .int 0, .int 0]))) fun τ104 => wt_ck (hcl τ104 o_ = some 3) <| wt_bd (eX5_at lit_ τ104 o_ a0) fun w106 => wt_rs w106 (fun o108 => wt_bd (eX8_init o108.2 w65.2.2 o63.1 (-1 : Int32) o108.1) fun w109 => some (.inl (w65.2.2, w109))) (fun x_ => some (.inr x_))) else (if w67 = (2 : Int32) then (wt_ck (hcl w65.2 o_ = some 3) <| wt_bd (eX5_other w65.2 o_ o63.1 (10 : Int32)) fun w113 => wt_rs w113 (fun o115 => wt_lt (hnew o115.2 (.inr (6, [.int 0, .int 0, .int 0]))) fun τ116 => wt_ck (hcl τ116 o_ = some 3) <| wt_bd (eX5_at lit_ τ116 o_ a0) fun w118 => wt_rs w118 (fun o120 => wt_bd (eX9_init o120.2 o115.2.2 o63.1 o115.1 o120.1) fun w121 => some (.inl (o115.2.2, w121))) (fun x_ => some (.inr x_))) (fun x_ => some (.inr x_))) else (if w67 = (3 : Int32) then (wt_lt (hnew w65.2 (.inr (7, [.int 0, .int 0, .int 0]))) fun τ124 => wt_ck (hcl τ124 o_ = some 3) <| wt_bd (eX5_at lit_ τ124 o_ a0) fun w126 => wt_rs w126 (fun o128 => wt_bd (eX10_init o128.2 w65.2.2 o63.1 (-1 : Int32) o128.1) fun w129 => some (.inl (w65.2.2, w129))) (fun x_ => some (.inr x_))) else (wt_ck (hcl w65.2 o_ = some 3) <| wt_bd (eX5_number w65.2 o_ (0 : Int32) (16 : Int32)) fun w132 => wt_rs w132 (fun o134 => wt_lt (hnew o134.2 (.inr (7, [.int 0, .int 0, .int 0]))) fun τ135 => wt_ck (hcl τ135 o_ = some 3) <| wt_bd (eX5_at lit_ τ135 o_ a0) fun w137 => wt_rs w137 (fun o139 => wt_bd (eX10_init o139.2 o134.2.2 o63.1 o134.1 o139.1) fun w140 => some (.inl (o134.2.2, w140))) (fun x_ => some (.inr x_))) (fun x_ => some (.inr x_))))))) (fun x_ => some (.inr x_)))) (fun z_ => some z_)
set_option maxHeartbeats 4000000 in
theorem wX5_event (l : Launch) (hfl : l.stackTraces = false) {G : HG} {A : Nat → Prop} {τ : HP} {o_ : Nat} {a0 : Nat} {out_ : (Nat × HP) ⊕ (Nat × Nat × HP)} (hd : eX5_event G.2.2 τ o_ a0 = some out_) : vx_Met l yX5_event (ws_ yX5_event cX5_event 7 (some (.object "WoolThreads$Event"))) ({ frames := 9, cells := 15, slots := 131, locals := 208 }) (hPc G A τ [.ref o_, .ref a0]) (hXr G A (fun r u => Sum.inl (r, u) = out_)) (hXX G A out_) 15 131 A := by
  refine vx_ofW (cc := cX5_event) (maxL := 7) (ret := (some (.object "WoolThreads$Event"))) (by decide) rfl ?_
  intro p_ e_ s_ m_ args_ below_ meth_ c_ s₁_ B hml hno hv
  obtain ⟨rfl, hW, hC⟩ := hv
  have hx := B.exec
  have hb := B.bytes
  have hr := B.returns
  have hts := atoms_spec (ws := (ws_ yX5_event cX5_event 7 (some (.object "WoolThreads$Event")))) B.pre
  have hts : ∀ w ∈ lw_all, w.before _ s_ = true := fun w h => hts w (List.mem_cons_of_mem _ h)
  have hown : s_.vm.findClass RX5 = some m_.cls := findClass_of_methodNamed B.named
  have hlocks := B.notSynchronized
  have hK := hC.1
  have hT := hC.2.1
  have hL := hC.2.2.1
  have hZ := hC.2.2.2.2.1
  have hA := hC.2.2.2.2.2
  have hS : va_S A s_.heap s_.heap [] := va_S.rf
  have hl := lv_entry ([.ref o_, .ref a0]) (n := 7) (Nat.le_of_ble_eq_true rfl)
  rw [lg_entry_eq]
  generalize (lg_sl ([.ref o_, .ref a0]) ++ List.replicate (7 - (lg_sl ([.ref o_, .ref a0])).length) Slot.unset).toArray = ls at hl ⊢
  have hl : lv_has ls 7 [(0, .ref o_), (1, .ref a0)] := hl
  unfold eX5_event at hd
  refine lv_aload_n (pc := 0) hx hb dX5_event_0 rfl (lv_at hl 0 rfl) ?_
  obtain ⟨h1, hd⟩ := wt_ck_o hd
  obtain ⟨w2, hc3, hd⟩ := wt_bd_o hd
  refine kX5_word (pc := 1) hx hb hml hown hts hC hW hS h1 hc3 hl.1 (Nat.le_of_ble_eq_true rfl) ⟨Nat.le_of_ble_eq_true rfl, Nat.le_of_ble_eq_true rfl⟩ ⟨(Nat.le_of_ble_eq_true rfl), (Nat.le_of_ble_eq_true rfl)⟩ q723 dX5_event_1 (fun H locs hW hS => ?_)
  refine lv_astore_n (pc := 4) (lv' := [(2, .ref w2.1), (0, .ref o_), (1, .ref a0)]) hx hb dX5_event_4 rfl hl (by decide) rfl (fun ls hl => ?_)
  refine lv_aload_n (pc := 5) hx hb dX5_event_5 rfl (lv_at hl 0 rfl) ?_
  refine lv_astore_n (pc := 6) (lv' := [(3, .ref w2.1), (2, .ref w2.1), (0, .ref o_), (1, .ref a0)]) hx hb dX5_event_6 rfl hl (by decide) rfl (fun ls hl => ?_)
  refine lv_iconst (pc := 7) (v := -1) hx hb dX5_event_7 (by decide) ?_
  refine lv_istore (pc := 8) (lv' := [(4, .int (-1 : Int32)), (3, .ref w2.1), (2, .ref w2.1), (0, .ref o_), (1, .ref a0)]) hx hb dX5_event_8 hl (by decide) rfl (fun ls hl => ?_)
  refine lv_aload_n (pc := 10) hx hb dX5_event_10 rfl (lv_at hl 1 rfl) ?_
  obtain ⟨h4, hd⟩ := wt_ck_o hd
  obtain ⟨w5, hc6, hd⟩ := wt_bd_o hd
  refine kJ9_hashCode (pc := 11) hx hb hml hown hts hC hW hS h4 hc6 hl.1 (Nat.le_of_ble_eq_true rfl) ⟨Nat.le_of_ble_eq_true rfl, Nat.le_of_ble_eq_true rfl⟩ ⟨Nat.le_of_ble_eq_true rfl, Nat.le_of_ble_eq_true rfl⟩ q751 dX5_event_11 (fun H locs hW hS => ?_)
  obtain ⟨w7, hj8, hq9⟩ := wt_bd_o hd
  have hX10 : ∀ w7_ : Int32, w7_ = w7 → ∀ (H : Heap) (locs : List Loc) (ls : Array Slot), Hw G A w5.2 H → va_S A s_.heap H locs → lv_has ls 7 [(0, .ref o_), (1, .ref a0), (2, .ref w2.1), (4, .int w7_)] → W p_ l e_ (headSpec (ws_ yX5_event cX5_event 7 (some (.object "WoolThreads$Event"))) ({ frames := 9, cells := 15, slots := 131, locals := 208 })).room s_ m_ ([.ref o_, .ref a0] : List Value).toArray below_ meth_ c_ H locs 4 40 (vx_MQ below_ (hXr G A (fun r u => Sum.inl (r, u) = out_)) (hXX G A out_) ([.ref o_, .ref a0] : List Value).toArray s_ 15 131 A) (F0 m_ 136 ls []) := by
    intro w7_ hw_
    have hd := hq9
    subst hw_
    clear hj8 hq9
    intro H locs ls hW hS hl
    refine lv_iload (pc := 136) hx hb dX5_event_136 (lv_at hl 3 rfl) ?_
    obtain ⟨w36, hj37, hq38⟩ := wt_bd_o hd
    have hX39 : ∀ w36_ : Unit, (Sum.inl w36_ : (Unit) ⊕ _) = w36 → ∀ (H : Heap) (locs : List Loc) (ls : Array Slot), Hw G A w5.2 H → va_S A s_.heap H locs → lv_has ls 7 [(0, .ref o_), (1, .ref a0), (2, .ref w2.1)] → W p_ l e_ (headSpec (ws_ yX5_event cX5_event 7 (some (.object "WoolThreads$Event"))) ({ frames := 9, cells := 15, slots := 131, locals := 208 })).room s_ m_ ([.ref o_, .ref a0] : List Value).toArray below_ meth_ c_ H locs 4 40 (vx_MQ below_ (hXr G A (fun r u => Sum.inl (r, u) = out_)) (hXX G A out_) ([.ref o_, .ref a0] : List Value).toArray s_ 15 131 A) (F0 m_ 172 ls []) := by
      intro w36_ hw_
      have hd := wt_rs_l hw_ hq38
      clear hj37 hq38
      intro H locs ls hW hS hl
      refine lv_goto (pc := 172) (tgt := 180) hx hb dX5_event_172 (by decide) ?_
      refine lv_aload_n (pc := 180) hx hb dX5_event_180 rfl (lv_at hl 1 rfl) ?_
      obtain ⟨h49, hd⟩ := wt_ck_o hd
      obtain ⟨w50, hc51, hd⟩ := wt_bd_o hd
      refine kJ2_size (pc := 181) hx hb hml hown hts hC hW hS h49 hc51 hl.1 (Nat.le_of_ble_eq_true rfl) ⟨Nat.le_of_ble_eq_true rfl, Nat.le_of_ble_eq_true rfl⟩ ⟨Nat.le_of_ble_eq_true rfl, Nat.le_of_ble_eq_true rfl⟩ q898 dX5_event_181 (fun H locs hW hS => ?_)
      refine lv_bipush (pc := 184) (v := 20) hx hb dX5_event_184 (by decide) ?_
      refine lv_icmp_ne (pc := 186) (tgt := 202) hx hb dX5_event_186 (by decide) (fun c52 => ?_) (fun c52 => ?_)
      · have hd := wt_if hd c52
        refine lv_aload_n (pc := 202) hx hb dX5_event_202 rfl (lv_at hl 0 rfl) ?_
        refine lv_dup (pc := 203) hx hb dX5_event_203 rfl ?_
        obtain ⟨f53, h54, hd⟩ := wt_bd_o hd
        refine hr_get (pc := 204) hx hb hts hown hK hW (hgI_o h54) hf_3_2 (fun _ h => h) q698 dX5_event_204 ?_
        refine lv_aload_n (pc := 207) hx hb dX5_event_207 rfl (lv_at hl 2 rfl) ?_
        obtain ⟨h55, hd⟩ := wt_ck_o hd
        obtain ⟨w56, hc57, hd⟩ := wt_bd_o hd
        refine kJ9_length (pc := 208) hx hb hml hown hts hC hW hS h55 hc57 hl.1 (Nat.le_of_ble_eq_true rfl) ⟨Nat.le_of_ble_eq_true rfl, Nat.le_of_ble_eq_true rfl⟩ ⟨Nat.le_of_ble_eq_true rfl, Nat.le_of_ble_eq_true rfl⟩ q859 dX5_event_208 (fun H locs hW hS => ?_)
        refine lv_iadd (pc := 211) hx hb dX5_event_211 ?_
        obtain ⟨τ58, h59, hd⟩ := wt_bd_o hd
        refine hr_put (pc := 212) (ty := .int) hx hb hts hown hK hW hS h59 hf_3_2 (by decide +kernel) rfl rfl (fun _ h => h) q698 dX5_event_212 (fun H locs hW hS => ?_)
        refine lv_aload_n (pc := 215) hx hb dX5_event_215 rfl (lv_at hl 0 rfl) ?_
        refine lv_iconst (pc := 216) (v := 0) hx hb dX5_event_216 (by decide) ?_
        refine lv_bipush (pc := 217) (v := 9) hx hb dX5_event_217 (by decide) ?_
        obtain ⟨h60, hd⟩ := wt_ck_o hd
        obtain ⟨w61, hc62, hd⟩ := wt_bd_o hd
        refine kX5_number (pc := 219) hfl hx hb hml hown hts hC hW hS h60 hc62 hl.1 (Nat.le_of_ble_eq_true rfl) ⟨Nat.le_of_ble_eq_true rfl, Nat.le_of_ble_eq_true rfl⟩ ⟨(Nat.le_of_ble_eq_true rfl), (Nat.le_of_ble_eq_true rfl)⟩ q860 dX5_event_219 (fun x_ hx_ E_ ce_ q9_ H locs hXB hS hce hvn hfc => ?_) (fun o63 ho_ H locs hW hS => ?_)
        · have hd := wt_rs_r hx_ hd
          exact hx_out (fun z hz => (hno z hz).elim) hlocks hce hvn hfc (Option.some.inj hd) hXB hS (Nat.le_of_ble_eq_true rfl) (Nat.le_of_ble_eq_true rfl)
        · have hd := wt_rs_l ho_ hd
          refine lv_istore_n (pc := 222) (lv' := [(3, .int o63.1), (0, .ref o_), (1, .ref a0), (2, .ref w2.1)]) hx hb dX5_event_222 rfl hl (by decide) rfl (fun ls hl => ?_)
          refine lv_aload_n (pc := 223) hx hb dX5_event_223 rfl (lv_at hl 3 rfl) ?_
          refine lv_astore (pc := 224) (lv' := [(4, .ref w2.1), (3, .int o63.1), (0, .ref o_), (1, .ref a0), (2, .ref w2.1)]) hx hb dX5_event_224 hl (by decide) rfl (fun ls hl => ?_)
          refine lv_iconst (pc := 226) (v := -1) hx hb dX5_event_226 (by decide) ?_
          refine lv_istore (pc := 227) (lv' := [(5, .int (-1 : Int32)), (4, .ref w2.1), (3, .int o63.1), (0, .ref o_), (1, .ref a0), (2, .ref w2.1)]) hx hb dX5_event_227 hl (by decide) rfl (fun ls hl => ?_)
          refine lv_aload (pc := 229) hx hb dX5_event_229 (lv_at hl 1 rfl) ?_
          obtain ⟨h64, hd⟩ := wt_ck_o hd
          obtain ⟨w65, hc66, hd⟩ := wt_bd_o hd
          refine kJ9_hashCode (pc := 231) hx hb hml hown hts hC hW hS h64 hc66 hl.1 (Nat.le_of_ble_eq_true rfl) ⟨Nat.le_of_ble_eq_true rfl, Nat.le_of_ble_eq_true rfl⟩ ⟨Nat.le_of_ble_eq_true rfl, Nat.le_of_ble_eq_true rfl⟩ q751 dX5_event_231 (fun H locs hW hS => ?_)
          obtain ⟨w67, hj68, hq69⟩ := wt_bd_o hd
          have hX70 : ∀ w67_ : Int32, w67_ = w67 → ∀ (H : Heap) (locs : List Loc) (ls : Array Slot), Hw G A w65.2 H → va_S A s_.heap H locs → lv_has ls 7 [(0, .ref o_), (1, .ref a0), (3, .int o63.1), (5, .int w67_)] → W p_ l e_ (headSpec (ws_ yX5_event cX5_event 7 (some (.object "WoolThreads$Event"))) ({ frames := 9, cells := 15, slots := 131, locals := 208 })).room s_ m_ ([.ref o_, .ref a0] : List Value).toArray below_ meth_ c_ H locs 5 48 (vx_MQ below_ (hXr G A (fun r u => Sum.inl (r, u) = out_)) (hXX G A out_) ([.ref o_, .ref a0] : List Value).toArray s_ 15 131 A) (F0 m_ 337 ls []) := by
            intro w67_ hw_
            have hd := hq69
            subst hw_
            clear hj68 hq69
            intro H locs ls hW hS hl
            refine lv_iload (pc := 337) hx hb dX5_event_337 (lv_at hl 3 rfl) ?_
            by_cases c91 : w67_ = (0 : Int32)
            · have hd := wt_it hd c91
              refine lv_tableIn (pc := 339) (tgt := 368) (off := 29) hx hb dX5_event_339 (by rw [c91]; decide) (by rw [c91]; decide) (by rw [c91]; rfl) (by decide) ?_
              refine lv_aload_n (pc := 368) hx hb dX5_event_368 rfl (lv_at hl 0 rfl) ?_
              refine lv_iconst (pc := 369) (v := 0) hx hb dX5_event_369 (by decide) ?_
              refine lv_bipush (pc := 370) (v := 7) hx hb dX5_event_370 (by decide) ?_
              obtain ⟨h92, hd⟩ := wt_ck_o hd
              obtain ⟨w93, hc94, hd⟩ := wt_bd_o hd
              refine kX5_number (pc := 372) hfl hx hb hml hown hts hC hW hS h92 hc94 hl.1 (Nat.le_of_ble_eq_true rfl) ⟨Nat.le_of_ble_eq_true rfl, Nat.le_of_ble_eq_true rfl⟩ ⟨(Nat.le_of_ble_eq_true rfl), (Nat.le_of_ble_eq_true rfl)⟩ q860 dX5_event_372 (fun x_ hx_ E_ ce_ q9_ H locs hXB hS hce hvn hfc => ?_) (fun o95 ho_ H locs hW hS => ?_)
              · have hd := wt_rs_r hx_ hd
                exact hx_out (fun z hz => (hno z hz).elim) hlocks hce hvn hfc (Option.some.inj hd) hXB hS (Nat.le_of_ble_eq_true rfl) (Nat.le_of_ble_eq_true rfl)
              · have hd := wt_rs_l ho_ hd
                refine lv_istore (pc := 375) (lv' := [(6, .int o95.1), (0, .ref o_), (1, .ref a0), (3, .int o63.1), (5, .int w67_)]) hx hb dX5_event_375 hl (by decide) rfl (fun ls hl => ?_)
                obtain ⟨τ96, eτ96, hd⟩ := wt_lt_o hd
                refine hr_new (pc := 377) (ci := 5) (fs := [.int 0, .int 0, .int 0]) hx hb hts hown hK hW hS hA rfl tyX8 tyX8_ok (by decide +kernel) q899 q900 q92 eτ96 (Nat.le_of_ble_eq_true rfl) (Nat.le_of_ble_eq_true rfl) dX5_event_377 (fun H hW hS => ?_)
                refine lv_dup (pc := 380) hx hb dX5_event_380 rfl ?_
                refine lv_iload_n (pc := 381) hx hb dX5_event_381 rfl (lv_at hl 3 rfl) ?_
                refine lv_iload (pc := 382) hx hb dX5_event_382 (lv_at hl 0 rfl) ?_
                refine lv_aload_n (pc := 384) hx hb dX5_event_384 rfl (lv_at hl 1 rfl) ?_
                refine lv_aload_n (pc := 385) hx hb dX5_event_385 rfl (lv_at hl 2 rfl) ?_
                obtain ⟨h97, hd⟩ := wt_ck_o hd
                obtain ⟨w98, hc99, hd⟩ := wt_bd_o hd
                refine kX5_at (pc := 386) hfl hx hb hml hown hts hC hW hS h97 hc99 hl.1 (Nat.le_of_ble_eq_true rfl) ⟨Nat.le_of_ble_eq_true rfl, Nat.le_of_ble_eq_true rfl⟩ ⟨(Nat.le_of_ble_eq_true rfl), (Nat.le_of_ble_eq_true rfl)⟩ q901 dX5_event_386 (fun x_ hx_ E_ ce_ q9_ H locs hXB hS hce hvn hfc => ?_) (fun o100 ho_ H locs hW hS => ?_)
                · have hd := wt_rs_r hx_ hd
                  exact hx_out (fun z hz => (hno z hz).elim) hlocks hce hvn hfc (Option.some.inj hd) hXB hS (Nat.le_of_ble_eq_true rfl) (Nat.le_of_ble_eq_true rfl)
                · have hd := wt_rs_l ho_ hd
                  obtain ⟨w101, hc102, hd⟩ := wt_bd_o hd
                  refine kX8_init (pc := 389) hx hb hml hown hts hC hW hS hc102 hl.1 (Nat.le_of_ble_eq_true rfl) ⟨Nat.le_of_ble_eq_true rfl, Nat.le_of_ble_eq_true rfl⟩ ⟨Nat.le_of_ble_eq_true rfl, Nat.le_of_ble_eq_true rfl⟩ q916 dX5_event_389 (fun H locs hW hS => ?_)
                  refine vx_ret ?_
                  exact hx_aret hx hb hr (Or.inl ⟨_, rfl⟩) hlocks (Option.some.inj hd) hW hS dX5_event_392 (Nat.le_of_ble_eq_true rfl) (Nat.le_of_ble_eq_true rfl)
            have hd := wt_if hd c91
            by_cases c103 : w67_ = (1 : Int32)
            · have hd := wt_it hd c103
              refine lv_tableIn (pc := 339) (tgt := 393) (off := 54) hx hb dX5_event_339 (by rw [c103]; decide) (by rw [c103]; decide) (by rw [c103]; rfl) (by decide) ?_
              obtain ⟨τ104, eτ104, hd⟩ := wt_lt_o hd
              refine hr_new (pc := 393) (ci := 5) (fs := [.int 0, .int 0, .int 0]) hx hb hts hown hK hW hS hA rfl tyX8 tyX8_ok (by decide +kernel) q899 q900 q92 eτ104 (Nat.le_of_ble_eq_true rfl) (Nat.le_of_ble_eq_true rfl) dX5_event_393 (fun H hW hS => ?_)
              refine lv_dup (pc := 396) hx hb dX5_event_396 rfl ?_
              refine lv_iload_n (pc := 397) hx hb dX5_event_397 rfl (lv_at hl 2 rfl) ?_
              refine lv_iconst (pc := 398) (v := -1) hx hb dX5_event_398 (by decide) ?_
              refine lv_aload_n (pc := 399) hx hb dX5_event_399 rfl (lv_at hl 0 rfl) ?_
              refine lv_aload_n (pc := 400) hx hb dX5_event_400 rfl (lv_at hl 1 rfl) ?_
              obtain ⟨h105, hd⟩ := wt_ck_o hd
              obtain ⟨w106, hc107, hd⟩ := wt_bd_o hd
              refine kX5_at (pc := 401) hfl hx hb hml hown hts hC hW hS h105 hc107 hl.1 (Nat.le_of_ble_eq_true rfl) ⟨Nat.le_of_ble_eq_true rfl, Nat.le_of_ble_eq_true rfl⟩ ⟨(Nat.le_of_ble_eq_true rfl), (Nat.le_of_ble_eq_true rfl)⟩ q901 dX5_event_401 (fun x_ hx_ E_ ce_ q9_ H locs hXB hS hce hvn hfc => ?_) (fun o108 ho_ H locs hW hS => ?_)
              · have hd := wt_rs_r hx_ hd
                exact hx_out (fun z hz => (hno z hz).elim) hlocks hce hvn hfc (Option.some.inj hd) hXB hS (Nat.le_of_ble_eq_true rfl) (Nat.le_of_ble_eq_true rfl)
              · have hd := wt_rs_l ho_ hd
                obtain ⟨w109, hc110, hd⟩ := wt_bd_o hd
                refine kX8_init (pc := 404) hx hb hml hown hts hC hW hS hc110 hl.1 (Nat.le_of_ble_eq_true rfl) ⟨Nat.le_of_ble_eq_true rfl, Nat.le_of_ble_eq_true rfl⟩ ⟨Nat.le_of_ble_eq_true rfl, Nat.le_of_ble_eq_true rfl⟩ q916 dX5_event_404 (fun H locs hW hS => ?_)
                refine vx_ret ?_
                exact hx_aret hx hb hr (Or.inl ⟨_, rfl⟩) hlocks (Option.some.inj hd) hW hS dX5_event_407 (Nat.le_of_ble_eq_true rfl) (Nat.le_of_ble_eq_true rfl)
            have hd := wt_if hd c103
            by_cases c111 : w67_ = (2 : Int32)
            · have hd := wt_it hd c111
              refine lv_tableIn (pc := 339) (tgt := 408) (off := 69) hx hb dX5_event_339 (by rw [c111]; decide) (by rw [c111]; decide) (by rw [c111]; rfl) (by decide) ?_
              refine lv_aload_n (pc := 408) hx hb dX5_event_408 rfl (lv_at hl 0 rfl) ?_
              refine lv_iload_n (pc := 409) hx hb dX5_event_409 rfl (lv_at hl 2 rfl) ?_
              refine lv_bipush (pc := 410) (v := 10) hx hb dX5_event_410 (by decide) ?_
              obtain ⟨h112, hd⟩ := wt_ck_o hd
              obtain ⟨w113, hc114, hd⟩ := wt_bd_o hd
              refine kX5_other (pc := 412) hfl hx hb hml hown hts hC hW hS h112 hc114 hl.1 (Nat.le_of_ble_eq_true rfl) ⟨Nat.le_of_ble_eq_true rfl, Nat.le_of_ble_eq_true rfl⟩ ⟨(Nat.le_of_ble_eq_true rfl), (Nat.le_of_ble_eq_true rfl)⟩ q865 dX5_event_412 (fun x_ hx_ E_ ce_ q9_ H locs hXB hS hce hvn hfc => ?_) (fun o115 ho_ H locs hW hS => ?_)
              · have hd := wt_rs_r hx_ hd
                exact hx_out (fun z hz => (hno z hz).elim) hlocks hce hvn hfc (Option.some.inj hd) hXB hS (Nat.le_of_ble_eq_true rfl) (Nat.le_of_ble_eq_true rfl)
              · have hd := wt_rs_l ho_ hd
                refine lv_istore (pc := 415) (lv' := [(6, .int o115.1), (0, .ref o_), (1, .ref a0), (3, .int o63.1), (5, .int w67_)]) hx hb dX5_event_415 hl (by decide) rfl (fun ls hl => ?_)
                obtain ⟨τ116, eτ116, hd⟩ := wt_lt_o hd
                refine hr_new (pc := 417) (ci := 6) (fs := [.int 0, .int 0, .int 0]) hx hb hts hown hK hW hS hA rfl tyX9 tyX9_ok (by decide +kernel) q944 q945 q94 eτ116 (Nat.le_of_ble_eq_true rfl) (Nat.le_of_ble_eq_true rfl) dX5_event_417 (fun H hW hS => ?_)
                refine lv_dup (pc := 420) hx hb dX5_event_420 rfl ?_
                refine lv_iload_n (pc := 421) hx hb dX5_event_421 rfl (lv_at hl 3 rfl) ?_
                refine lv_iload (pc := 422) hx hb dX5_event_422 (lv_at hl 0 rfl) ?_
                refine lv_aload_n (pc := 424) hx hb dX5_event_424 rfl (lv_at hl 1 rfl) ?_
                refine lv_aload_n (pc := 425) hx hb dX5_event_425 rfl (lv_at hl 2 rfl) ?_
                obtain ⟨h117, hd⟩ := wt_ck_o hd
                obtain ⟨w118, hc119, hd⟩ := wt_bd_o hd
                refine kX5_at (pc := 426) hfl hx hb hml hown hts hC hW hS h117 hc119 hl.1 (Nat.le_of_ble_eq_true rfl) ⟨Nat.le_of_ble_eq_true rfl, Nat.le_of_ble_eq_true rfl⟩ ⟨(Nat.le_of_ble_eq_true rfl), (Nat.le_of_ble_eq_true rfl)⟩ q901 dX5_event_426 (fun x_ hx_ E_ ce_ q9_ H locs hXB hS hce hvn hfc => ?_) (fun o120 ho_ H locs hW hS => ?_)
                · have hd := wt_rs_r hx_ hd
                  exact hx_out (fun z hz => (hno z hz).elim) hlocks hce hvn hfc (Option.some.inj hd) hXB hS (Nat.le_of_ble_eq_true rfl) (Nat.le_of_ble_eq_true rfl)
                · have hd := wt_rs_l ho_ hd
                  obtain ⟨w121, hc122, hd⟩ := wt_bd_o hd
                  refine kX9_init (pc := 429) hx hb hml hown hts hC hW hS hc122 hl.1 (Nat.le_of_ble_eq_true rfl) ⟨Nat.le_of_ble_eq_true rfl, Nat.le_of_ble_eq_true rfl⟩ ⟨Nat.le_of_ble_eq_true rfl, Nat.le_of_ble_eq_true rfl⟩ q946 dX5_event_429 (fun H locs hW hS => ?_)
                  refine vx_ret ?_
                  exact hx_aret hx hb hr (Or.inl ⟨_, rfl⟩) hlocks (Option.some.inj hd) hW hS dX5_event_432 (Nat.le_of_ble_eq_true rfl) (Nat.le_of_ble_eq_true rfl)
            have hd := wt_if hd c111
            by_cases c123 : w67_ = (3 : Int32)
            · have hd := wt_it hd c123
              refine lv_tableIn (pc := 339) (tgt := 433) (off := 94) hx hb dX5_event_339 (by rw [c123]; decide) (by rw [c123]; decide) (by rw [c123]; rfl) (by decide) ?_
              obtain ⟨τ124, eτ124, hd⟩ := wt_lt_o hd
              refine hr_new (pc := 433) (ci := 7) (fs := [.int 0, .int 0, .int 0]) hx hb hts hown hK hW hS hA rfl tyX10 tyX10_ok (by decide +kernel) q957 q958 q95 eτ124 (Nat.le_of_ble_eq_true rfl) (Nat.le_of_ble_eq_true rfl) dX5_event_433 (fun H hW hS => ?_)
              refine lv_dup (pc := 436) hx hb dX5_event_436 rfl ?_
              refine lv_iload_n (pc := 437) hx hb dX5_event_437 rfl (lv_at hl 2 rfl) ?_
              refine lv_iconst (pc := 438) (v := -1) hx hb dX5_event_438 (by decide) ?_
              refine lv_aload_n (pc := 439) hx hb dX5_event_439 rfl (lv_at hl 0 rfl) ?_
              refine lv_aload_n (pc := 440) hx hb dX5_event_440 rfl (lv_at hl 1 rfl) ?_
              obtain ⟨h125, hd⟩ := wt_ck_o hd
              obtain ⟨w126, hc127, hd⟩ := wt_bd_o hd
              refine kX5_at (pc := 441) hfl hx hb hml hown hts hC hW hS h125 hc127 hl.1 (Nat.le_of_ble_eq_true rfl) ⟨Nat.le_of_ble_eq_true rfl, Nat.le_of_ble_eq_true rfl⟩ ⟨(Nat.le_of_ble_eq_true rfl), (Nat.le_of_ble_eq_true rfl)⟩ q901 dX5_event_441 (fun x_ hx_ E_ ce_ q9_ H locs hXB hS hce hvn hfc => ?_) (fun o128 ho_ H locs hW hS => ?_)
              · have hd := wt_rs_r hx_ hd
                exact hx_out (fun z hz => (hno z hz).elim) hlocks hce hvn hfc (Option.some.inj hd) hXB hS (Nat.le_of_ble_eq_true rfl) (Nat.le_of_ble_eq_true rfl)
              · have hd := wt_rs_l ho_ hd
                obtain ⟨w129, hc130, hd⟩ := wt_bd_o hd
                refine kX10_init (pc := 444) hx hb hml hown hts hC hW hS hc130 hl.1 (Nat.le_of_ble_eq_true rfl) ⟨Nat.le_of_ble_eq_true rfl, Nat.le_of_ble_eq_true rfl⟩ ⟨Nat.le_of_ble_eq_true rfl, Nat.le_of_ble_eq_true rfl⟩ q959 dX5_event_444 (fun H locs hW hS => ?_)
                refine vx_ret ?_
                exact hx_aret hx hb hr (Or.inl ⟨_, rfl⟩) hlocks (Option.some.inj hd) hW hS dX5_event_447 (Nat.le_of_ble_eq_true rfl) (Nat.le_of_ble_eq_true rfl)
            have hd := wt_if hd c123
            have ec91 : ¬ (w67_).toInt = 0 := fun h => c91 (wt_i32 h (by decide))
            have ec103 : ¬ (w67_).toInt = 1 := fun h => c103 (wt_i32 h (by decide))
            have ec111 : ¬ (w67_).toInt = 2 := fun h => c111 (wt_i32 h (by decide))
            have ec123 : ¬ (w67_).toInt = 3 := fun h => c123 (wt_i32 h (by decide))
            refine lv_tableOut (pc := 339) (tgt := 448) hx hb dX5_event_339 (by omega) (by decide) ?_
            refine lv_aload_n (pc := 448) hx hb dX5_event_448 rfl (lv_at hl 0 rfl) ?_
            refine lv_iconst (pc := 449) (v := 0) hx hb dX5_event_449 (by decide) ?_
            refine lv_bipush (pc := 450) (v := 16) hx hb dX5_event_450 (by decide) ?_
            obtain ⟨h131, hd⟩ := wt_ck_o hd
            obtain ⟨w132, hc133, hd⟩ := wt_bd_o hd
            refine kX5_number (pc := 452) hfl hx hb hml hown hts hC hW hS h131 hc133 hl.1 (Nat.le_of_ble_eq_true rfl) ⟨Nat.le_of_ble_eq_true rfl, Nat.le_of_ble_eq_true rfl⟩ ⟨(Nat.le_of_ble_eq_true rfl), (Nat.le_of_ble_eq_true rfl)⟩ q860 dX5_event_452 (fun x_ hx_ E_ ce_ q9_ H locs hXB hS hce hvn hfc => ?_) (fun o134 ho_ H locs hW hS => ?_)
            · have hd := wt_rs_r hx_ hd
              exact hx_out (fun z hz => (hno z hz).elim) hlocks hce hvn hfc (Option.some.inj hd) hXB hS (Nat.le_of_ble_eq_true rfl) (Nat.le_of_ble_eq_true rfl)
            · have hd := wt_rs_l ho_ hd
              refine lv_istore (pc := 455) (lv' := [(6, .int o134.1), (0, .ref o_), (1, .ref a0), (3, .int o63.1), (5, .int w67_)]) hx hb dX5_event_455 hl (by decide) rfl (fun ls hl => ?_)
              obtain ⟨τ135, eτ135, hd⟩ := wt_lt_o hd
              refine hr_new (pc := 457) (ci := 7) (fs := [.int 0, .int 0, .int 0]) hx hb hts hown hK hW hS hA rfl tyX10 tyX10_ok (by decide +kernel) q957 q958 q95 eτ135 (Nat.le_of_ble_eq_true rfl) (Nat.le_of_ble_eq_true rfl) dX5_event_457 (fun H hW hS => ?_)
              refine lv_dup (pc := 460) hx hb dX5_event_460 rfl ?_
              refine lv_iload_n (pc := 461) hx hb dX5_event_461 rfl (lv_at hl 3 rfl) ?_
              refine lv_iload (pc := 462) hx hb dX5_event_462 (lv_at hl 0 rfl) ?_
              refine lv_aload_n (pc := 464) hx hb dX5_event_464 rfl (lv_at hl 1 rfl) ?_
              refine lv_aload_n (pc := 465) hx hb dX5_event_465 rfl (lv_at hl 2 rfl) ?_
              obtain ⟨h136, hd⟩ := wt_ck_o hd
              obtain ⟨w137, hc138, hd⟩ := wt_bd_o hd
              refine kX5_at (pc := 466) hfl hx hb hml hown hts hC hW hS h136 hc138 hl.1 (Nat.le_of_ble_eq_true rfl) ⟨Nat.le_of_ble_eq_true rfl, Nat.le_of_ble_eq_true rfl⟩ ⟨(Nat.le_of_ble_eq_true rfl), (Nat.le_of_ble_eq_true rfl)⟩ q901 dX5_event_466 (fun x_ hx_ E_ ce_ q9_ H locs hXB hS hce hvn hfc => ?_) (fun o139 ho_ H locs hW hS => ?_)
              · have hd := wt_rs_r hx_ hd
                exact hx_out (fun z hz => (hno z hz).elim) hlocks hce hvn hfc (Option.some.inj hd) hXB hS (Nat.le_of_ble_eq_true rfl) (Nat.le_of_ble_eq_true rfl)
              · have hd := wt_rs_l ho_ hd
                obtain ⟨w140, hc141, hd⟩ := wt_bd_o hd
                refine kX10_init (pc := 469) hx hb hml hown hts hC hW hS hc141 hl.1 (Nat.le_of_ble_eq_true rfl) ⟨Nat.le_of_ble_eq_true rfl, Nat.le_of_ble_eq_true rfl⟩ ⟨Nat.le_of_ble_eq_true rfl, Nat.le_of_ble_eq_true rfl⟩ q959 dX5_event_469 (fun H locs hW hS => ?_)
                refine vx_ret ?_
                exact hx_aret hx hb hr (Or.inl ⟨_, rfl⟩) hlocks (Option.some.inj hd) hW hS dX5_event_472 (Nat.le_of_ble_eq_true rfl) (Nat.le_of_ble_eq_true rfl)
          have hd := hj68
          by_cases c71 : w65.1 = (3016370 : Int32)
          · have hd := wt_it hd c71
            refine lv_lookup (pc := 234) (tgt := 292) (off := 58) hx hb dX5_event_234 (by decide) (by rw [c71]; decide) (by decide) ?_
            refine lv_aload (pc := 292) hx hb dX5_event_292 (lv_at hl 1 rfl) ?_
            refine va_ldcS (pc := 294) hx hb hown (hL (155, "bare") (by decide)) dX5_event_294 ?_
            obtain ⟨h72, hd⟩ := wt_ck_o hd
            obtain ⟨w73, hc74, hd⟩ := wt_bd_o hd
            refine kJ9_equals (pc := 296) hx hb hml hown hts hC hW hS h72 hc74 hl.1 (Nat.le_of_ble_eq_true rfl) ⟨Nat.le_of_ble_eq_true rfl, Nat.le_of_ble_eq_true rfl⟩ ⟨Nat.le_of_ble_eq_true rfl, Nat.le_of_ble_eq_true rfl⟩ q813 dX5_event_296 (fun H locs hW hS => ?_)
            refine lv_if_eq (pc := 299) (tgt := 337) hx hb dX5_event_299 (by decide) (fun c75 => ?_) (fun c75 => ?_)
            · have hd := wt_it hd c75
              exact hX70 (-1 : Int32) (Option.some.inj hd) _ _ _ hW hS (lv_sub hl [3, 4, 2, 0] rfl)
            · have hd := wt_if hd c75
              refine lv_iconst (pc := 302) (v := 1) hx hb dX5_event_302 (by decide) ?_
              refine lv_istore (pc := 303) (lv' := [(5, .int (1 : Int32)), (4, .ref w2.1), (3, .int o63.1), (0, .ref o_), (1, .ref a0), (2, .ref w2.1)]) hx hb dX5_event_303 hl (by decide) rfl (fun ls hl => ?_)
              refine lv_goto (pc := 305) (tgt := 337) hx hb dX5_event_305 (by decide) ?_
              exact hX70 (1 : Int32) (Option.some.inj hd) _ _ _ hW hS (lv_sub hl [3, 4, 2, 0] rfl)
          have hd := wt_if hd c71
          by_cases c76 : w65.1 = (3642015 : Int32)
          · have hd := wt_it hd c76
            refine lv_lookup (pc := 234) (tgt := 324) (off := 90) hx hb dX5_event_234 (by decide) (by rw [c76]; decide) (by decide) ?_
            refine lv_aload (pc := 324) hx hb dX5_event_324 (lv_at hl 1 rfl) ?_
            refine va_ldcS (pc := 326) hx hb hown (hL (92, "wash") (by decide)) dX5_event_326 ?_
            obtain ⟨h77, hd⟩ := wt_ck_o hd
            obtain ⟨w78, hc79, hd⟩ := wt_bd_o hd
            refine kJ9_equals (pc := 328) hx hb hml hown hts hC hW hS h77 hc79 hl.1 (Nat.le_of_ble_eq_true rfl) ⟨Nat.le_of_ble_eq_true rfl, Nat.le_of_ble_eq_true rfl⟩ ⟨Nat.le_of_ble_eq_true rfl, Nat.le_of_ble_eq_true rfl⟩ q813 dX5_event_328 (fun H locs hW hS => ?_)
            refine lv_if_eq (pc := 331) (tgt := 337) hx hb dX5_event_331 (by decide) (fun c80 => ?_) (fun c80 => ?_)
            · have hd := wt_it hd c80
              exact hX70 (-1 : Int32) (Option.some.inj hd) _ _ _ hW hS (lv_sub hl [3, 4, 2, 0] rfl)
            · have hd := wt_if hd c80
              refine lv_iconst (pc := 334) (v := 3) hx hb dX5_event_334 (by decide) ?_
              refine lv_istore (pc := 335) (lv' := [(5, .int (3 : Int32)), (4, .ref w2.1), (3, .int o63.1), (0, .ref o_), (1, .ref a0), (2, .ref w2.1)]) hx hb dX5_event_335 hl (by decide) rfl (fun ls hl => ?_)
              exact hX70 (3 : Int32) (Option.some.inj hd) _ _ _ hW hS (lv_sub hl [3, 4, 2, 0] rfl)
          have hd := wt_if hd c76
          by_cases c81 : w65.1 = (3645311 : Int32)
          · have hd := wt_it hd c81
            refine lv_lookup (pc := 234) (tgt := 276) (off := 42) hx hb dX5_event_234 (by decide) (by rw [c81]; decide) (by decide) ?_
            refine lv_aload (pc := 276) hx hb dX5_event_276 (lv_at hl 1 rfl) ?_
            refine va_ldcS (pc := 278) hx hb hown (hL (153, "wear") (by decide)) dX5_event_278 ?_
            obtain ⟨h82, hd⟩ := wt_ck_o hd
            obtain ⟨w83, hc84, hd⟩ := wt_bd_o hd
            refine kJ9_equals (pc := 280) hx hb hml hown hts hC hW hS h82 hc84 hl.1 (Nat.le_of_ble_eq_true rfl) ⟨Nat.le_of_ble_eq_true rfl, Nat.le_of_ble_eq_true rfl⟩ ⟨Nat.le_of_ble_eq_true rfl, Nat.le_of_ble_eq_true rfl⟩ q813 dX5_event_280 (fun H locs hW hS => ?_)
            refine lv_if_eq (pc := 283) (tgt := 337) hx hb dX5_event_283 (by decide) (fun c85 => ?_) (fun c85 => ?_)
            · have hd := wt_it hd c85
              exact hX70 (-1 : Int32) (Option.some.inj hd) _ _ _ hW hS (lv_sub hl [3, 4, 2, 0] rfl)
            · have hd := wt_if hd c85
              refine lv_iconst (pc := 286) (v := 0) hx hb dX5_event_286 (by decide) ?_
              refine lv_istore (pc := 287) (lv' := [(5, .int (0 : Int32)), (4, .ref w2.1), (3, .int o63.1), (0, .ref o_), (1, .ref a0), (2, .ref w2.1)]) hx hb dX5_event_287 hl (by decide) rfl (fun ls hl => ?_)
              refine lv_goto (pc := 289) (tgt := 337) hx hb dX5_event_289 (by decide) ?_
              exact hX70 (0 : Int32) (Option.some.inj hd) _ _ _ hW hS (lv_sub hl [3, 4, 2, 0] rfl)
          have hd := wt_if hd c81
          by_cases c86 : w65.1 = (110550847 : Int32)
          · have hd := wt_it hd c86
            refine lv_lookup (pc := 234) (tgt := 308) (off := 74) hx hb dX5_event_234 (by decide) (by rw [c86]; decide) (by decide) ?_
            refine lv_aload (pc := 308) hx hb dX5_event_308 (lv_at hl 1 rfl) ?_
            refine va_ldcS (pc := 310) hx hb hown (hL (157, "touch") (by decide)) dX5_event_310 ?_
            obtain ⟨h87, hd⟩ := wt_ck_o hd
            obtain ⟨w88, hc89, hd⟩ := wt_bd_o hd
            refine kJ9_equals (pc := 312) hx hb hml hown hts hC hW hS h87 hc89 hl.1 (Nat.le_of_ble_eq_true rfl) ⟨Nat.le_of_ble_eq_true rfl, Nat.le_of_ble_eq_true rfl⟩ ⟨Nat.le_of_ble_eq_true rfl, Nat.le_of_ble_eq_true rfl⟩ q813 dX5_event_312 (fun H locs hW hS => ?_)
            refine lv_if_eq (pc := 315) (tgt := 337) hx hb dX5_event_315 (by decide) (fun c90 => ?_) (fun c90 => ?_)
            · have hd := wt_it hd c90
              exact hX70 (-1 : Int32) (Option.some.inj hd) _ _ _ hW hS (lv_sub hl [3, 4, 2, 0] rfl)
            · have hd := wt_if hd c90
              refine lv_iconst (pc := 318) (v := 2) hx hb dX5_event_318 (by decide) ?_
              refine lv_istore (pc := 319) (lv' := [(5, .int (2 : Int32)), (4, .ref w2.1), (3, .int o63.1), (0, .ref o_), (1, .ref a0), (2, .ref w2.1)]) hx hb dX5_event_319 hl (by decide) rfl (fun ls hl => ?_)
              refine lv_goto (pc := 321) (tgt := 337) hx hb dX5_event_321 (by decide) ?_
              exact hX70 (2 : Int32) (Option.some.inj hd) _ _ _ hW hS (lv_sub hl [3, 4, 2, 0] rfl)
          have hd := wt_if hd c86
          have ec71 : ¬ (w65.1).toInt = 3016370 := fun h => c71 (wt_i32 h (by decide))
          have ec76 : ¬ (w65.1).toInt = 3642015 := fun h => c76 (wt_i32 h (by decide))
          have ec81 : ¬ (w65.1).toInt = 3645311 := fun h => c81 (wt_i32 h (by decide))
          have ec86 : ¬ (w65.1).toInt = 110550847 := fun h => c86 (wt_i32 h (by decide))
          refine lv_lookup (pc := 234) (tgt := 337) (off := 103) hx hb dX5_event_234 (by decide) (wt_lkd [(3016370, 58), (3642015, 90), (3645311, 42), (110550847, 74)] _ _ (by intro q hq; simp only [List.mem_cons, List.not_mem_nil, or_false] at hq; rcases hq with hq | hq | hq | hq <;> subst hq <;> assumption)) (by decide) ?_
          exact hX70 (-1 : Int32) (Option.some.inj hd) _ _ _ hW hS (lv_sub hl [3, 4, 2, 0] rfl)
      · have hd := wt_it hd c52
        obtain ⟨τ142, eτ142, hd⟩ := wt_lt_o hd
        refine hr_new (pc := 189) (ci := 4) (fs := [.null, .null, .null, .null, .null, .int 0, .int 0, .int 0]) hx hb hts hown hK hW hS hA rfl tyX6 tyX6_ok (by decide +kernel) q831 q832 q90 eτ142 (Nat.le_of_ble_eq_true rfl) (Nat.le_of_ble_eq_true rfl) dX5_event_189 (fun H hW hS => ?_)
        refine lv_dup (pc := 192) hx hb dX5_event_192 rfl ?_
        refine lv_iconst (pc := 193) (v := 3) hx hb dX5_event_193 (by decide) ?_
        refine lv_aload_n (pc := 194) hx hb dX5_event_194 rfl (lv_at hl 0 rfl) ?_
        obtain ⟨f143, h144, hd⟩ := wt_bd_o hd
        refine hr_get (pc := 195) hx hb hts hown hK hW (hgI_o h144) hf_3_2 (fun _ h => h) q698 dX5_event_195 ?_
        obtain ⟨w145, hc146, hd⟩ := wt_bd_o hd
        refine kX6_init (pc := 198) hx hb hml hown hts hC hW hS hc146 hl.1 (Nat.le_of_ble_eq_true rfl) ⟨Nat.le_of_ble_eq_true rfl, Nat.le_of_ble_eq_true rfl⟩ ⟨Nat.le_of_ble_eq_true rfl, Nat.le_of_ble_eq_true rfl⟩ q840 dX5_event_198 (fun H locs hW hS => ?_)
        obtain ⟨h147, hd⟩ := wt_ck_o hd
        exact hx_throwW (pc := 201) hx hb hC hno hlocks h147 (Option.some.inj hd) hW hS dX5_event_201 (Nat.le_of_ble_eq_true rfl) (Nat.le_of_ble_eq_true rfl)
    have hd := hj37
    by_cases c40 : w7_ = (0 : Int32)
    · have hd := wt_it hd c40
      refine lv_tableIn (pc := 138) (tgt := 172) (off := 34) hx hb dX5_event_138 (by rw [c40]; decide) (by rw [c40]; decide) (by rw [c40]; rfl) (by decide) ?_
      exact hX39 () (Option.some.inj hd) _ _ _ hW hS (lv_sub hl [0, 1, 2] rfl)
    have hd := wt_if hd c40
    by_cases c41 : w7_ = (1 : Int32)
    · have hd := wt_it hd c41
      refine lv_tableIn (pc := 138) (tgt := 172) (off := 34) hx hb dX5_event_138 (by rw [c41]; decide) (by rw [c41]; decide) (by rw [c41]; rfl) (by decide) ?_
      exact hX39 () (Option.some.inj hd) _ _ _ hW hS (lv_sub hl [0, 1, 2] rfl)
    have hd := wt_if hd c41
    by_cases c42 : w7_ = (2 : Int32)
    · have hd := wt_it hd c42
      refine lv_tableIn (pc := 138) (tgt := 172) (off := 34) hx hb dX5_event_138 (by rw [c42]; decide) (by rw [c42]; decide) (by rw [c42]; rfl) (by decide) ?_
      exact hX39 () (Option.some.inj hd) _ _ _ hW hS (lv_sub hl [0, 1, 2] rfl)
    have hd := wt_if hd c42
    by_cases c43 : w7_ = (3 : Int32)
    · have hd := wt_it hd c43
      refine lv_tableIn (pc := 138) (tgt := 172) (off := 34) hx hb dX5_event_138 (by rw [c43]; decide) (by rw [c43]; decide) (by rw [c43]; rfl) (by decide) ?_
      exact hX39 () (Option.some.inj hd) _ _ _ hW hS (lv_sub hl [0, 1, 2] rfl)
    have hd := wt_if hd c43
    by_cases c44 : w7_ = (4 : Int32)
    · have hd := wt_it hd c44
      refine lv_tableIn (pc := 138) (tgt := 172) (off := 34) hx hb dX5_event_138 (by rw [c44]; decide) (by rw [c44]; decide) (by rw [c44]; rfl) (by decide) ?_
      exact hX39 () (Option.some.inj hd) _ _ _ hW hS (lv_sub hl [0, 1, 2] rfl)
    have hd := wt_if hd c44
    have ec40 : ¬ (w7_).toInt = 0 := fun h => c40 (wt_i32 h (by decide))
    have ec41 : ¬ (w7_).toInt = 1 := fun h => c41 (wt_i32 h (by decide))
    have ec42 : ¬ (w7_).toInt = 2 := fun h => c42 (wt_i32 h (by decide))
    have ec43 : ¬ (w7_).toInt = 3 := fun h => c43 (wt_i32 h (by decide))
    have ec44 : ¬ (w7_).toInt = 4 := fun h => c44 (wt_i32 h (by decide))
    refine lv_tableOut (pc := 138) (tgt := 175) hx hb dX5_event_138 (by omega) (by decide) ?_
    refine lv_aload_n (pc := 175) hx hb dX5_event_175 rfl (lv_at hl 0 rfl) ?_
    obtain ⟨h45, hd⟩ := wt_ck_o hd
    obtain ⟨w46, hc47, hd⟩ := wt_bd_o hd
    refine kX5_wrong (pc := 176) hx hb hml hown hts hC hW hS h45 hc47 hl.1 (Nat.le_of_ble_eq_true rfl) ⟨Nat.le_of_ble_eq_true rfl, Nat.le_of_ble_eq_true rfl⟩ ⟨(Nat.le_of_ble_eq_true rfl), (Nat.le_of_ble_eq_true rfl)⟩ q827 dX5_event_176 (fun H locs hW hS => ?_)
    obtain ⟨h48, hd⟩ := wt_ck_o hd
    have hd := wt_rs_r (Option.some.inj hd) hq38
    exact hx_throwW (pc := 179) hx hb hC hno hlocks h48 (Option.some.inj hd) hW hS dX5_event_179 (Nat.le_of_ble_eq_true rfl) (Nat.le_of_ble_eq_true rfl)
  have hd := hj8
  by_cases c11 : w5.1 = (3016370 : Int32)
  · have hd := wt_it hd c11
    refine lv_lookup (pc := 14) (tgt := 79) (off := 65) hx hb dX5_event_14 (by decide) (by rw [c11]; decide) (by decide) ?_
    refine lv_aload_n (pc := 79) hx hb dX5_event_79 rfl (lv_at hl 1 rfl) ?_
    refine va_ldcS (pc := 80) hx hb hown (hL (155, "bare") (by decide)) dX5_event_80 ?_
    obtain ⟨h12, hd⟩ := wt_ck_o hd
    obtain ⟨w13, hc14, hd⟩ := wt_bd_o hd
    refine kJ9_equals (pc := 82) hx hb hml hown hts hC hW hS h12 hc14 hl.1 (Nat.le_of_ble_eq_true rfl) ⟨Nat.le_of_ble_eq_true rfl, Nat.le_of_ble_eq_true rfl⟩ ⟨Nat.le_of_ble_eq_true rfl, Nat.le_of_ble_eq_true rfl⟩ q813 dX5_event_82 (fun H locs hW hS => ?_)
    refine lv_if_eq (pc := 85) (tgt := 136) hx hb dX5_event_85 (by decide) (fun c15 => ?_) (fun c15 => ?_)
    · have hd := wt_it hd c15
      exact hX10 (-1 : Int32) (Option.some.inj hd) _ _ _ hW hS (lv_sub hl [3, 4, 2, 0] rfl)
    · have hd := wt_if hd c15
      refine lv_iconst (pc := 88) (v := 1) hx hb dX5_event_88 (by decide) ?_
      refine lv_istore (pc := 89) (lv' := [(4, .int (1 : Int32)), (3, .ref w2.1), (2, .ref w2.1), (0, .ref o_), (1, .ref a0)]) hx hb dX5_event_89 hl (by decide) rfl (fun ls hl => ?_)
      refine lv_goto (pc := 91) (tgt := 136) hx hb dX5_event_91 (by decide) ?_
      exact hX10 (1 : Int32) (Option.some.inj hd) _ _ _ hW hS (lv_sub hl [3, 4, 2, 0] rfl)
  have hd := wt_if hd c11
  by_cases c16 : w5.1 = (3642015 : Int32)
  · have hd := wt_it hd c16
    refine lv_lookup (pc := 14) (tgt := 109) (off := 95) hx hb dX5_event_14 (by decide) (by rw [c16]; decide) (by decide) ?_
    refine lv_aload_n (pc := 109) hx hb dX5_event_109 rfl (lv_at hl 1 rfl) ?_
    refine va_ldcS (pc := 110) hx hb hown (hL (92, "wash") (by decide)) dX5_event_110 ?_
    obtain ⟨h17, hd⟩ := wt_ck_o hd
    obtain ⟨w18, hc19, hd⟩ := wt_bd_o hd
    refine kJ9_equals (pc := 112) hx hb hml hown hts hC hW hS h17 hc19 hl.1 (Nat.le_of_ble_eq_true rfl) ⟨Nat.le_of_ble_eq_true rfl, Nat.le_of_ble_eq_true rfl⟩ ⟨Nat.le_of_ble_eq_true rfl, Nat.le_of_ble_eq_true rfl⟩ q813 dX5_event_112 (fun H locs hW hS => ?_)
    refine lv_if_eq (pc := 115) (tgt := 136) hx hb dX5_event_115 (by decide) (fun c20 => ?_) (fun c20 => ?_)
    · have hd := wt_it hd c20
      exact hX10 (-1 : Int32) (Option.some.inj hd) _ _ _ hW hS (lv_sub hl [3, 4, 2, 0] rfl)
    · have hd := wt_if hd c20
      refine lv_iconst (pc := 118) (v := 3) hx hb dX5_event_118 (by decide) ?_
      refine lv_istore (pc := 119) (lv' := [(4, .int (3 : Int32)), (3, .ref w2.1), (2, .ref w2.1), (0, .ref o_), (1, .ref a0)]) hx hb dX5_event_119 hl (by decide) rfl (fun ls hl => ?_)
      refine lv_goto (pc := 121) (tgt := 136) hx hb dX5_event_121 (by decide) ?_
      exact hX10 (3 : Int32) (Option.some.inj hd) _ _ _ hW hS (lv_sub hl [3, 4, 2, 0] rfl)
  have hd := wt_if hd c16
  by_cases c21 : w5.1 = (3645311 : Int32)
  · have hd := wt_it hd c21
    refine lv_lookup (pc := 14) (tgt := 64) (off := 50) hx hb dX5_event_14 (by decide) (by rw [c21]; decide) (by decide) ?_
    refine lv_aload_n (pc := 64) hx hb dX5_event_64 rfl (lv_at hl 1 rfl) ?_
    refine va_ldcS (pc := 65) hx hb hown (hL (153, "wear") (by decide)) dX5_event_65 ?_
    obtain ⟨h22, hd⟩ := wt_ck_o hd
    obtain ⟨w23, hc24, hd⟩ := wt_bd_o hd
    refine kJ9_equals (pc := 67) hx hb hml hown hts hC hW hS h22 hc24 hl.1 (Nat.le_of_ble_eq_true rfl) ⟨Nat.le_of_ble_eq_true rfl, Nat.le_of_ble_eq_true rfl⟩ ⟨Nat.le_of_ble_eq_true rfl, Nat.le_of_ble_eq_true rfl⟩ q813 dX5_event_67 (fun H locs hW hS => ?_)
    refine lv_if_eq (pc := 70) (tgt := 136) hx hb dX5_event_70 (by decide) (fun c25 => ?_) (fun c25 => ?_)
    · have hd := wt_it hd c25
      exact hX10 (-1 : Int32) (Option.some.inj hd) _ _ _ hW hS (lv_sub hl [3, 4, 2, 0] rfl)
    · have hd := wt_if hd c25
      refine lv_iconst (pc := 73) (v := 0) hx hb dX5_event_73 (by decide) ?_
      refine lv_istore (pc := 74) (lv' := [(4, .int (0 : Int32)), (3, .ref w2.1), (2, .ref w2.1), (0, .ref o_), (1, .ref a0)]) hx hb dX5_event_74 hl (by decide) rfl (fun ls hl => ?_)
      refine lv_goto (pc := 76) (tgt := 136) hx hb dX5_event_76 (by decide) ?_
      exact hX10 (0 : Int32) (Option.some.inj hd) _ _ _ hW hS (lv_sub hl [3, 4, 2, 0] rfl)
  have hd := wt_if hd c21
  by_cases c26 : w5.1 = (109399814 : Int32)
  · have hd := wt_it hd c26
    refine lv_lookup (pc := 14) (tgt := 124) (off := 110) hx hb dX5_event_14 (by decide) (by rw [c26]; decide) (by decide) ?_
    refine lv_aload_n (pc := 124) hx hb dX5_event_124 rfl (lv_at hl 1 rfl) ?_
    refine va_ldcS (pc := 125) hx hb hown (hL (159, "shake") (by decide)) dX5_event_125 ?_
    obtain ⟨h27, hd⟩ := wt_ck_o hd
    obtain ⟨w28, hc29, hd⟩ := wt_bd_o hd
    refine kJ9_equals (pc := 127) hx hb hml hown hts hC hW hS h27 hc29 hl.1 (Nat.le_of_ble_eq_true rfl) ⟨Nat.le_of_ble_eq_true rfl, Nat.le_of_ble_eq_true rfl⟩ ⟨Nat.le_of_ble_eq_true rfl, Nat.le_of_ble_eq_true rfl⟩ q813 dX5_event_127 (fun H locs hW hS => ?_)
    refine lv_if_eq (pc := 130) (tgt := 136) hx hb dX5_event_130 (by decide) (fun c30 => ?_) (fun c30 => ?_)
    · have hd := wt_it hd c30
      exact hX10 (-1 : Int32) (Option.some.inj hd) _ _ _ hW hS (lv_sub hl [3, 4, 2, 0] rfl)
    · have hd := wt_if hd c30
      refine lv_iconst (pc := 133) (v := 4) hx hb dX5_event_133 (by decide) ?_
      refine lv_istore (pc := 134) (lv' := [(4, .int (4 : Int32)), (3, .ref w2.1), (2, .ref w2.1), (0, .ref o_), (1, .ref a0)]) hx hb dX5_event_134 hl (by decide) rfl (fun ls hl => ?_)
      exact hX10 (4 : Int32) (Option.some.inj hd) _ _ _ hW hS (lv_sub hl [3, 4, 2, 0] rfl)
  have hd := wt_if hd c26
  by_cases c31 : w5.1 = (110550847 : Int32)
  · have hd := wt_it hd c31
    refine lv_lookup (pc := 14) (tgt := 94) (off := 80) hx hb dX5_event_14 (by decide) (by rw [c31]; decide) (by decide) ?_
    refine lv_aload_n (pc := 94) hx hb dX5_event_94 rfl (lv_at hl 1 rfl) ?_
    refine va_ldcS (pc := 95) hx hb hown (hL (157, "touch") (by decide)) dX5_event_95 ?_
    obtain ⟨h32, hd⟩ := wt_ck_o hd
    obtain ⟨w33, hc34, hd⟩ := wt_bd_o hd
    refine kJ9_equals (pc := 97) hx hb hml hown hts hC hW hS h32 hc34 hl.1 (Nat.le_of_ble_eq_true rfl) ⟨Nat.le_of_ble_eq_true rfl, Nat.le_of_ble_eq_true rfl⟩ ⟨Nat.le_of_ble_eq_true rfl, Nat.le_of_ble_eq_true rfl⟩ q813 dX5_event_97 (fun H locs hW hS => ?_)
    refine lv_if_eq (pc := 100) (tgt := 136) hx hb dX5_event_100 (by decide) (fun c35 => ?_) (fun c35 => ?_)
    · have hd := wt_it hd c35
      exact hX10 (-1 : Int32) (Option.some.inj hd) _ _ _ hW hS (lv_sub hl [3, 4, 2, 0] rfl)
    · have hd := wt_if hd c35
      refine lv_iconst (pc := 103) (v := 2) hx hb dX5_event_103 (by decide) ?_
      refine lv_istore (pc := 104) (lv' := [(4, .int (2 : Int32)), (3, .ref w2.1), (2, .ref w2.1), (0, .ref o_), (1, .ref a0)]) hx hb dX5_event_104 hl (by decide) rfl (fun ls hl => ?_)
      refine lv_goto (pc := 106) (tgt := 136) hx hb dX5_event_106 (by decide) ?_
      exact hX10 (2 : Int32) (Option.some.inj hd) _ _ _ hW hS (lv_sub hl [3, 4, 2, 0] rfl)
  have hd := wt_if hd c31
  have ec11 : ¬ (w5.1).toInt = 3016370 := fun h => c11 (wt_i32 h (by decide))
  have ec16 : ¬ (w5.1).toInt = 3642015 := fun h => c16 (wt_i32 h (by decide))
  have ec21 : ¬ (w5.1).toInt = 3645311 := fun h => c21 (wt_i32 h (by decide))
  have ec26 : ¬ (w5.1).toInt = 109399814 := fun h => c26 (wt_i32 h (by decide))
  have ec31 : ¬ (w5.1).toInt = 110550847 := fun h => c31 (wt_i32 h (by decide))
  refine lv_lookup (pc := 14) (tgt := 136) (off := 122) hx hb dX5_event_14 (by decide) (wt_lkd [(3016370, 65), (3642015, 95), (3645311, 50), (109399814, 110), (110550847, 80)] _ _ (by intro q hq; simp only [List.mem_cons, List.not_mem_nil, or_false] at hq; rcases hq with hq | hq | hq | hq | hq <;> subst hq <;> assumption)) (by decide) ?_
  exact hX10 (-1 : Int32) (Option.some.inj hd) _ _ _ hW hS (lv_sub hl [3, 4, 2, 0] rfl)
theorem kX5_event {p : Program} {l : Launch} {e : Env} {R : Room} {s : State} {m : MethodId} {args : Array Value} {below : List Frame} {meth : Method} {c : Code} {H : Heap} {locs : List Loc} {cells slots : Nat} {Q : State → Prop} {cc : ByteArray} {pc : Nat} {ls : Array Slot} {rest : List Value} {nL : Nat} {own : String} {index : Nat} {G : HG} {A : Nat → Prop} {τ : HP} {o_ : Nat} {a0 : Nat} {out_ : (Nat × HP) ⊕ (Nat × Nat × HP)} (hfl : l.stackTraces = false) (hx : p.tables.exec = Jvm.exec) (hb : c.code = cc) (hml : c.maxLocals = nL) (hown : s.vm.findClass own = some m.cls) (hts : ∀ w ∈ lw_all, w.before args s = true) (hC : Hcx G A s) (hW : Hw G A τ H) (hS : va_S A s.heap H locs) (hrc : hcl τ o_ = some 3) (hd : eX5_event G.2.2 τ o_ a0 = some out_) (hsz : ls.size = nL) (hrm : (rest.map fun v => v.category).sum ≤ 8) (hR : 10 ≤ R.frames ∧ 234 ≤ R.locals) (hcs : (cells + 15) ≤ R.cells ∧ (slots + 131) ≤ R.slots) (hlk : Cond.methodLink own index yX5_event ∈ lw_all) (hdg : decode cc pc = .ok (.invokevirtual index, 3)) (kx : ∀ x_ : Nat × Nat × HP, Sum.inr x_ = out_ → ∀ (E : String) (ce : Cell) (q9 : Addr) (H1 : Heap) (locs1 : List Loc), hXb G A E q9 x_ H1 → va_S A s.heap H1 locs1 → H1[q9]? = some ce → ce.vm = .none → s.vm.findClass E = some ce.cls → vx_W p l e R s m args below meth c H1 locs1 (cells + 15) (slots + 131) Q (F0 m pc ls rest) q9) (kk : ∀ o_1 : Nat × HP, Sum.inl o_1 = out_ → ∀ (H1 : Heap) (locs1 : List Loc), Hw G A o_1.2 H1 → va_S A s.heap H1 locs1 → W p l e R s m args below meth c H1 locs1 (cells + 15) (slots + 131) Q (F0 m (pc + 3) ls (.ref o_1.1 :: rest))) : W p l e R s m args below meth c H locs cells slots Q (F0 m pc ls (.ref a0 :: .ref o_ :: rest)) := by
  refine vx_callr (vx_runV (As := [.ref a0]) (rest := rest) ⟨hx, hb, hml, hown, hts⟩ (wX5_event l hfl hd) (cwV 1 hts (lw_V hlk q892 qs12 q89 q893) rfl rfl rfl (by decide +kernel) hR) (hr_preV hC hW hS hrc rfl rfl) rfl rfl hsz rfl (lv_room hrm) hdg hcs) hS (fun _ _ h => h) (fun _ h => h) (fun _ _ h => h) (fun E ce q9 u t H1 locs1 ht hvm hp hB hz hk hS1 hce hvn hfc => ?_) (fun u ra t H1 locs1 ht hvm hp hB hz hk hS1 => ?_)
  · rw [ht] at hB
    exact kx u hp E ce q9 H1 locs1 hB hS1 hce hvn hfc
  · have hW1 : Hw G A u t.heap := hB.2
    rw [ht] at hW1
    exact kk (ra, u) hB.1 H1 locs1 hW1 hS1
noncomputable def bX5_story_1 (lit_ : Nat → Nat) (τ : HP) (o_ : Nat) (v7 : HP × Nat × Nat) : Option ((HP × Nat × Nat) ⊕ ((HP × Nat × Nat) ⊕ ((Nat × HP) ⊕ (Nat × Nat × HP)))) :=
  wt_bd (hgI v7.1 o_ [3] 2) fun f17 => wt_bd (hgI v7.1 o_ [3] 1) fun f19 => if f19 ≤ f17 then (some (.inr (.inl (v7.1, v7.2.1, v7.2.2)))) else (wt_ck (hcl v7.1 o_ = some 3) <| wt_bd (eX5_event lit_ v7.1 o_ τ.2) fun w23 => wt_ck ((v7.2.1 + 15) ≤ 500 ∧ (v7.2.2 + 131) ≤ 6000) <| wt_rs w23 (fun o26 => wt_ck (hcl o26.2 τ.2 = some 13) <| wt_bd (eJ2_add o26.2 τ.2 o26.1) fun w28 => wt_ck ((v7.2.1 + 16) ≤ 500 ∧ (v7.2.2 + 163) ≤ 6000) <| wt_ck (hcl w28.2 o_ = some 3) <| wt_bd (eX5_need w28.2 o_ (59 : Int32)) fun w32 => wt_ck ((v7.2.1 + 17) ≤ 500 ∧ (v7.2.2 + 171) ≤ 6000) <| wt_rs w32 (fun o35 => wt_ck (hcl o35 o_ = some 3) <| wt_bd (eX5_sign o35 o_) fun w37 => wt_ck ((v7.2.1 + 17) ≤ 500 ∧ (v7.2.2 + 171) ≤ 6000) <| some (.inl (w37.2, (v7.2.1 + 17), (v7.2.2 + 171)))) (fun x_ => wt_ck ((v7.2.1 + 17) ≤ 500 ∧ (v7.2.2 + 171) ≤ 6000) <| some (.inr (.inr (.inr x_))))) (fun x_ => wt_ck ((v7.2.1 + 15) ≤ 500 ∧ (v7.2.2 + 131) ≤ 6000) <| some (.inr (.inr (.inr x_)))))
noncomputable def eX5_story (lit_ : Nat → Nat) (τ : HP) (o_ : Nat) : Option ((Nat × HP) ⊕ (Nat × Nat × HP)) :=
  wt_lt (hnew τ (.inr (13, [.int 0, .null, .int 0]))) fun τ1 => wt_bd (eJ2_init τ1 τ.2 (4 : Int32)) fun w2 => wt_ck (hcl w2 o_ = some 3) <| wt_bd (eX5_sign w2 o_) fun w5 => wt_bd (wt_whC (bX5_story_1 lit_ τ o_) (w5.2, 2, 7)) fun w8 => wt_rs w8 (fun w8 => wt_ck (w8.2.1 ≤ 500 ∧ w8.2.2 ≤ 6000) <| some (.inl (τ.2, w8.1))) (fun z_ => some z_)
set_option maxHeartbeats 4000000 in
theorem wX5_story (l : Launch) (hfl : l.stackTraces = false) {G : HG} {A : Nat → Prop} {τ : HP} {o_ : Nat} {out_ : (Nat × HP) ⊕ (Nat × Nat × HP)} (hd : eX5_story G.2.2 τ o_ = some out_) : vx_Met l yX5_story (ws_ yX5_story cX5_story 2 (some (.object "java/util/ArrayList"))) ({ frames := 10, cells := 500, slots := 6000, locals := 234 }) (hPc G A τ [.ref o_]) (hXr G A (fun r u => Sum.inl (r, u) = out_)) (hXX G A out_) 500 6000 A := by
  refine vx_ofW (cc := cX5_story) (maxL := 2) (ret := (some (.object "java/util/ArrayList"))) (by decide) rfl ?_
  intro p_ e_ s_ m_ args_ below_ meth_ c_ s₁_ B hml hno hv
  obtain ⟨rfl, hW, hC⟩ := hv
  have hx := B.exec
  have hb := B.bytes
  have hr := B.returns
  have hts := atoms_spec (ws := (ws_ yX5_story cX5_story 2 (some (.object "java/util/ArrayList")))) B.pre
  have hts : ∀ w ∈ lw_all, w.before _ s_ = true := fun w h => hts w (List.mem_cons_of_mem _ h)
  have hown : s_.vm.findClass RX5 = some m_.cls := findClass_of_methodNamed B.named
  have hlocks := B.notSynchronized
  have hK := hC.1
  have hT := hC.2.1
  have hL := hC.2.2.1
  have hZ := hC.2.2.2.2.1
  have hA := hC.2.2.2.2.2
  have hS : va_S A s_.heap s_.heap [] := va_S.rf
  have hl := lv_entry ([.ref o_]) (n := 2) (Nat.le_of_ble_eq_true rfl)
  rw [lg_entry_eq]
  generalize (lg_sl ([.ref o_]) ++ List.replicate (2 - (lg_sl ([.ref o_])).length) Slot.unset).toArray = ls at hl ⊢
  have hl : lv_has ls 2 [(0, .ref o_)] := hl
  unfold eX5_story at hd
  obtain ⟨τ1, eτ1, hd⟩ := wt_lt_o hd
  refine hr_new (pc := 0) (ci := 13) (fs := [.int 0, .null, .int 0]) hx hb hts hown hK hW hS hA rfl tyJ2 tyJ2_ok (by decide +kernel) q888 q170 q71 eτ1 (Nat.le_of_ble_eq_true rfl) (Nat.le_of_ble_eq_true rfl) dX5_story_0 (fun H hW hS => ?_)
  refine lv_dup (pc := 3) hx hb dX5_story_3 rfl ?_
  refine lv_iconst (pc := 4) (v := 4) hx hb dX5_story_4 (by decide) ?_
  obtain ⟨w2, hc3, hd⟩ := wt_bd_o hd
  refine kJ2_init (pc := 5) hx hb hml hown hts hC hW hS hc3 hl.1 (Nat.le_of_ble_eq_true rfl) ⟨Nat.le_of_ble_eq_true rfl, Nat.le_of_ble_eq_true rfl⟩ ⟨(Nat.le_of_ble_eq_true rfl), (Nat.le_of_ble_eq_true rfl)⟩ q889 dX5_story_5 (fun H locs hW hS => ?_)
  refine lv_astore_n (pc := 8) (lv' := [(1, .ref (τ.2)), (0, .ref o_)]) hx hb dX5_story_8 rfl hl (by decide) rfl (fun ls hl => ?_)
  refine lv_aload_n (pc := 9) hx hb dX5_story_9 rfl (lv_at hl 1 rfl) ?_
  obtain ⟨h4, hd⟩ := wt_ck_o hd
  obtain ⟨w5, hc6, hd⟩ := wt_bd_o hd
  refine kX5_sign (pc := 10) hx hb hml hown hts hC hW hS h4 hc6 hl.1 (Nat.le_of_ble_eq_true rfl) ⟨Nat.le_of_ble_eq_true rfl, Nat.le_of_ble_eq_true rfl⟩ ⟨Nat.le_of_ble_eq_true rfl, Nat.le_of_ble_eq_true rfl⟩ q715 dX5_story_10 (fun H locs hW hS => ?_)
  refine lv_pop (pc := 13) hx hb dX5_story_13 rfl ?_
  obtain ⟨w8, hL9, hq10⟩ := wt_bd_o hd
  have hX11 : ∀ w8_ : HP × Nat × Nat, (Sum.inl w8_ : (HP × Nat × Nat) ⊕ _) = w8 → ∀ (H : Heap) (locs : List Loc) (ls : Array Slot), Hw G A w8_.1 H → va_S A s_.heap H locs → lv_has ls 2 [(1, .ref (τ.2))] → W p_ l e_ (headSpec (ws_ yX5_story cX5_story 2 (some (.object "java/util/ArrayList"))) ({ frames := 10, cells := 500, slots := 6000, locals := 234 })).room s_ m_ ([.ref o_] : List Value).toArray below_ meth_ c_ H locs w8_.2.1 w8_.2.2 (vx_MQ below_ (hXr G A (fun r u => Sum.inl (r, u) = out_)) (hXX G A out_) ([.ref o_] : List Value).toArray s_ 500 6000 A) (F0 m_ 49 ls []) := by
    intro w8_ hw_
    have hd := wt_rs_l hw_ hq10
    clear hL9 hq10
    intro H locs ls hW hS hl
    refine lv_aload_n (pc := 49) hx hb dX5_story_49 rfl (lv_at hl 0 rfl) ?_
    obtain ⟨h42, hd⟩ := wt_ck_o hd
    refine vx_ret ?_
    exact hx_aret hx hb hr (Or.inl ⟨_, rfl⟩) hlocks (Option.some.inj hd) hW hS dX5_story_50 (h42.1) (h42.2)
  have hI16 : ∀ (k15 : Nat) (v7 : HP × Nat × Nat), wt_wh (bX5_story_1 G.2.2 τ o_) k15 v7 = some w8 → ∀ (H : Heap) (locs : List Loc) (ls : Array Slot), Hw G A v7.1 H → va_S A s_.heap H locs → lv_has ls 2 [(0, .ref o_), (1, .ref (τ.2))] → W p_ l e_ (headSpec (ws_ yX5_story cX5_story 2 (some (.object "java/util/ArrayList"))) ({ frames := 10, cells := 500, slots := 6000, locals := 234 })).room s_ m_ ([.ref o_] : List Value).toArray below_ meth_ c_ H locs v7.2.1 v7.2.2 (vx_MQ below_ (hXr G A (fun r u => Sum.inl (r, u) = out_)) (hXX G A out_) ([.ref o_] : List Value).toArray s_ 500 6000 A) (F0 m_ 14 ls []) := by
    intro k15
    induction k15 with
    | zero => intro v7 hd; exact absurd hd wt_wh_z
    | succ k15 ih13 =>
      intro v7 hd
      intro H locs ls hW hS hl
      obtain ⟨r14, hd, hk12⟩ := wt_wh_o hd
      unfold bX5_story_1 at hd
      refine lv_aload_n (pc := 14) hx hb dX5_story_14 rfl (lv_at hl 0 rfl) ?_
      obtain ⟨f17, h18, hd⟩ := wt_bd_o hd
      refine hr_get (pc := 15) hx hb hts hown hK hW (hgI_o h18) hf_3_2 (fun _ h => h) q698 dX5_story_15 ?_
      refine lv_aload_n (pc := 18) hx hb dX5_story_18 rfl (lv_at hl 0 rfl) ?_
      obtain ⟨f19, h20, hd⟩ := wt_bd_o hd
      refine hr_get (pc := 19) hx hb hts hown hK hW (hgI_o h20) hf_3_1 (fun _ h => h) q697 dX5_story_19 ?_
      refine lv_icmp_ge (pc := 22) (tgt := 49) hx hb dX5_story_22 (by decide) (fun c21 => ?_) (fun c21 => ?_)
      · have hd := wt_it hd c21
        exact hX11 (v7.1, v7.2.1, v7.2.2) (wt_exit hd hk12) _ _ _ hW hS (lv_sub hl [1] rfl)
      · have hd := wt_if hd c21
        refine lv_aload_n (pc := 25) hx hb dX5_story_25 rfl (lv_at hl 1 rfl) ?_
        refine lv_aload_n (pc := 26) hx hb dX5_story_26 rfl (lv_at hl 0 rfl) ?_
        refine lv_aload_n (pc := 27) hx hb dX5_story_27 rfl (lv_at hl 1 rfl) ?_
        obtain ⟨h22, hd⟩ := wt_ck_o hd
        obtain ⟨w23, hc24, hd⟩ := wt_bd_o hd
        obtain ⟨h25, hd⟩ := wt_ck_o hd
        refine kX5_event (pc := 28) hfl hx hb hml hown hts hC hW hS h22 hc24 hl.1 (Nat.le_of_ble_eq_true rfl) ⟨Nat.le_of_ble_eq_true rfl, Nat.le_of_ble_eq_true rfl⟩ ⟨h25.1, h25.2⟩ q890 dX5_story_28 (fun x_ hx_ E_ ce_ q9_ H locs hXB hS hce hvn hfc => ?_) (fun o26 ho_ H locs hW hS => ?_)
        · have hd := wt_rs_r hx_ hd
          obtain ⟨h41, hd⟩ := wt_ck_o hd
          have hd := wt_rs_r (wt_exit hd hk12) hq10
          exact hx_out (fun z hz => (hno z hz).elim) hlocks hce hvn hfc (Option.some.inj hd) hXB hS (h41.1) (h41.2)
        · have hd := wt_rs_l ho_ hd
          obtain ⟨h27, hd⟩ := wt_ck_o hd
          obtain ⟨w28, hc29, hd⟩ := wt_bd_o hd
          obtain ⟨h30, hd⟩ := wt_ck_o hd
          refine kJ2_add (pc := 31) hx hb hml hown hts hC hW hS h27 hc29 hl.1 (Nat.le_of_ble_eq_true rfl) ⟨Nat.le_of_ble_eq_true rfl, Nat.le_of_ble_eq_true rfl⟩ ⟨h30.1, h30.2⟩ q969 dX5_story_31 (fun H locs hW hS => ?_)
          refine lv_pop (pc := 34) hx hb dX5_story_34 rfl ?_
          refine lv_aload_n (pc := 35) hx hb dX5_story_35 rfl (lv_at hl 0 rfl) ?_
          refine lv_bipush (pc := 36) (v := 59) hx hb dX5_story_36 (by decide) ?_
          obtain ⟨h31, hd⟩ := wt_ck_o hd
          obtain ⟨w32, hc33, hd⟩ := wt_bd_o hd
          obtain ⟨h34, hd⟩ := wt_ck_o hd
          refine kX5_need (pc := 38) hfl hx hb hml hown hts hC hW hS h31 hc33 hl.1 (Nat.le_of_ble_eq_true rfl) ⟨Nat.le_of_ble_eq_true rfl, Nat.le_of_ble_eq_true rfl⟩ ⟨h34.1, h34.2⟩ q873 dX5_story_38 (fun x_ hx_ E_ ce_ q9_ H locs hXB hS hce hvn hfc => ?_) (fun o35 ho_ H locs hW hS => ?_)
          · have hd := wt_rs_r hx_ hd
            obtain ⟨h40, hd⟩ := wt_ck_o hd
            have hd := wt_rs_r (wt_exit hd hk12) hq10
            exact hx_out (fun z hz => (hno z hz).elim) hlocks hce hvn hfc (Option.some.inj hd) hXB hS (h40.1) (h40.2)
          · have hd := wt_rs_l ho_ hd
            refine lv_aload_n (pc := 41) hx hb dX5_story_41 rfl (lv_at hl 0 rfl) ?_
            obtain ⟨h36, hd⟩ := wt_ck_o hd
            obtain ⟨w37, hc38, hd⟩ := wt_bd_o hd
            obtain ⟨h39, hd⟩ := wt_ck_o hd
            refine kX5_sign (pc := 42) hx hb hml hown hts hC hW hS h36 hc38 hl.1 (Nat.le_of_ble_eq_true rfl) ⟨Nat.le_of_ble_eq_true rfl, Nat.le_of_ble_eq_true rfl⟩ ⟨h39.1, h39.2⟩ q715 dX5_story_42 (fun H locs hW hS => ?_)
            refine lv_pop (pc := 45) hx hb dX5_story_45 rfl ?_
            refine lv_goto (pc := 46) (tgt := 14) hx hb dX5_story_46 (by decide) ?_
            exact ih13 _ (wt_again hd hk12) _ _ _ hW hS hl
  obtain ⟨k15, hL9⟩ := wt_whC_o hL9
  exact hI16 k15 _ hL9 _ _ _ hW hS (lv_sub hl [1, 0] rfl)
theorem kX5_story {p : Program} {l : Launch} {e : Env} {R : Room} {s : State} {m : MethodId} {args : Array Value} {below : List Frame} {meth : Method} {c : Code} {H : Heap} {locs : List Loc} {cells slots : Nat} {Q : State → Prop} {cc : ByteArray} {pc : Nat} {ls : Array Slot} {rest : List Value} {nL : Nat} {own : String} {index : Nat} {G : HG} {A : Nat → Prop} {τ : HP} {o_ : Nat} {out_ : (Nat × HP) ⊕ (Nat × Nat × HP)} (hfl : l.stackTraces = false) (hx : p.tables.exec = Jvm.exec) (hb : c.code = cc) (hml : c.maxLocals = nL) (hown : s.vm.findClass own = some m.cls) (hts : ∀ w ∈ lw_all, w.before args s = true) (hC : Hcx G A s) (hW : Hw G A τ H) (hS : va_S A s.heap H locs) (hrc : hcl τ o_ = some 3) (hd : eX5_story G.2.2 τ o_ = some out_) (hsz : ls.size = nL) (hrm : (rest.map fun v => v.category).sum ≤ 8) (hR : 11 ≤ R.frames ∧ 255 ≤ R.locals) (hcs : (cells + 500) ≤ R.cells ∧ (slots + 6000) ≤ R.slots) (hlk : Cond.methodLink own index yX5_story ∈ lw_all) (hdg : decode cc pc = .ok (.invokevirtual index, 3)) (kx : ∀ x_ : Nat × Nat × HP, Sum.inr x_ = out_ → ∀ (E : String) (ce : Cell) (q9 : Addr) (H1 : Heap) (locs1 : List Loc), hXb G A E q9 x_ H1 → va_S A s.heap H1 locs1 → H1[q9]? = some ce → ce.vm = .none → s.vm.findClass E = some ce.cls → vx_W p l e R s m args below meth c H1 locs1 (cells + 500) (slots + 6000) Q (F0 m pc ls rest) q9) (kk : ∀ o_1 : Nat × HP, Sum.inl o_1 = out_ → ∀ (H1 : Heap) (locs1 : List Loc), Hw G A o_1.2 H1 → va_S A s.heap H1 locs1 → W p l e R s m args below meth c H1 locs1 (cells + 500) (slots + 6000) Q (F0 m (pc + 3) ls (.ref o_1.1 :: rest))) : W p l e R s m args below meth c H locs cells slots Q (F0 m pc ls (.ref o_ :: rest)) := by
  refine vx_callr (vx_runV (As := []) (rest := rest) ⟨hx, hb, hml, hown, hts⟩ (wX5_story l hfl hd) (cwV 0 hts (lw_V hlk q885 q886 q89 q887) rfl rfl rfl (by decide +kernel) hR) (hr_preV hC hW hS hrc rfl rfl) rfl rfl hsz rfl (lv_room hrm) hdg hcs) hS (fun _ _ h => h) (fun _ h => h) (fun _ _ h => h) (fun E ce q9 u t H1 locs1 ht hvm hp hB hz hk hS1 hce hvn hfc => ?_) (fun u ra t H1 locs1 ht hvm hp hB hz hk hS1 => ?_)
  · rw [ht] at hB
    exact kx u hp E ce q9 H1 locs1 hB hS1 hce hvn hfc
  · have hW1 : Hw G A u t.heap := hB.2
    rw [ht] at hW1
    exact kk (ra, u) hB.1 H1 locs1 hW1 hS1
