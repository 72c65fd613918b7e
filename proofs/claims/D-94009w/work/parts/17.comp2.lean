/-! lists, the state (by gen/comp.py) -/
set_option maxRecDepth 100000
theorem hf_13_0 : hfB [13] 0 "java/util/AbstractList" "modCount" "I" false = true := by decide +kernel
theorem hf_13_1 : hfB [13] 1 "java/util/ArrayList" "elementData" "[Ljava/lang/Object;" false = true := by decide +kernel
theorem hf_13_2 : hfB [13] 2 "java/util/ArrayList" "size" "I" false = true := by decide +kernel
theorem hf_2_0 : hfB [2] 0 "WoolThreads$State" "finds" "Ljava/util/ArrayList;" true = true := by decide +kernel
theorem hf_2_1 : hfB [2] 1 "WoolThreads$State" "shops" "Ljava/util/ArrayList;" true = true := by decide +kernel
theorem hf_2_2 : hfB [2] 2 "WoolThreads$State" "seats" "[I" true = true := by decide +kernel
theorem hf_2_3 : hfB [2] 3 "WoolThreads$State" "seatMany" "I" false = true := by decide +kernel
noncomputable def eJ0_init (o_ : Nat) : Option (Unit) :=
  some ()
set_option maxHeartbeats 4000000 in
theorem wJ0_init (l : Launch) {G : HG} {A : Nat → Prop} {τ : HP} {o_ : Nat} {out_ : Unit} (hd : eJ0_init o_ = some out_) : Met l yJ0_init (ws_ yJ0_init cJ0_init 1 none) ({ frames := 1, cells := 0, slots := 0, locals := 32 }) (hPc G A τ [.ref o_]) (hQv G τ A) 0 0 A := by
  refine Met.ofW (cc := cJ0_init) (maxL := 1) (ret := none) (by decide) rfl ?_
  intro p_ e_ s_ m_ args_ below_ meth_ c_ s₁_ B hml hv
  obtain ⟨rfl, hW, hC⟩ := hv
  have hx := B.exec
  have hb := B.bytes
  have hr := B.returns
  have hts := atoms_spec (ws := (ws_ yJ0_init cJ0_init 1 none)) B.pre
  have hts : ∀ w ∈ lw_all, w.before _ s_ = true := fun w h => hts w (List.mem_cons_of_mem _ h)
  have hown : s_.vm.findClass RJ0 = some m_.cls := findClass_of_methodNamed B.named
  have hlocks := B.notSynchronized
  have hK := hC.1
  have hT := hC.2.1
  have hL := hC.2.2.1
  have hZ := hC.2.2.2.2.1
  have hA := hC.2.2.2.2.2
  have hin2 : meth_.name = "<init>" := (name_of_methodNamed B.named B.method).1
  have hS : va_S A s_.heap s_.heap [] := va_S.rf
  have hl := lv_entry ([.ref o_]) (n := 1) (Nat.le_of_ble_eq_true rfl)
  rw [lg_entry_eq]
  generalize (lg_sl ([.ref o_]) ++ List.replicate (1 - (lg_sl ([.ref o_])).length) Slot.unset).toArray = ls at hl ⊢
  have hl : lv_has ls 1 [(0, .ref o_)] := hl
  unfold eJ0_init at hd
  refine lv_aload_n (pc := 0) hx hb dJ0_init_0 rfl (lv_at hl 0 rfl) ?_
  refine W.objInit (g := F0 m_ 1 ls _) hx hb hown (hts _ q180) (hts _ q110) (hts _ q111) rfl (by rw [hml]; exact hl.1) rfl dJ0_init_1 (Nat.le_of_ble_eq_true rfl) (Nat.le_of_ble_eq_true rfl) ?_
  refine W.eq (g2 := F0 m_ 4 ls []) rfl ?_
  exact hr_vret hx hb hr hlocks rfl hW hS dJ0_init_4 (Nat.le_of_ble_eq_true rfl) (Nat.le_of_ble_eq_true rfl)
theorem kJ0_init {p : Program} {l : Launch} {e : Env} {R : Room} {s : State} {m : MethodId} {args : Array Value} {below : List Frame} {meth : Method} {c : Code} {H : Heap} {locs : List Loc} {cells slots : Nat} {Q : State → Prop} {cc : ByteArray} {pc : Nat} {ls : Array Slot} {rest : List Value} {nL : Nat} {own : String} {index : Nat} {G : HG} {A : Nat → Prop} {τ : HP} {o_ : Nat} {out_ : Unit} (hx : p.tables.exec = Jvm.exec) (hb : c.code = cc) (hml : c.maxLocals = nL) (hown : s.vm.findClass own = some m.cls) (hts : ∀ w ∈ lw_all, w.before args s = true) (hC : Hcx G A s) (hW : Hw G A τ H) (hS : va_S A s.heap H locs) (hd : eJ0_init o_ = some out_) (hsz : ls.size = nL) (hrm : (rest.map fun v => v.category).sum ≤ 8) (hR : 2 ≤ R.frames ∧ 52 ≤ R.locals) (hcs : cells ≤ R.cells ∧ slots ≤ R.slots) (hlk : Cond.methodLink own index yJ0_init ∈ lw_all) (hdg : decode cc pc = .ok (.invokespecial index, 3)) (kk : ∀ (H1 : Heap) (locs1 : List Loc), Hw G A τ H1 → va_S A s.heap H1 locs1 → W p l e R s m args below meth c H1 locs1 cells slots Q (F0 m (pc + 3) ls (rest))) : W p l e R s m args below meth c H locs cells slots Q (F0 m pc ls (.ref o_ :: rest)) := by
  refine va_callv (va_runI (As := []) (rest := rest) ⟨hx, hb, hml, hown, hts⟩ (wJ0_init l hd) (cwI 0 hts (lw_meth q179) rfl rfl rfl (hts _ q69) (hts _ hlk) (hts _ q178) rfl (by decide +kernel) hR) (hr_preS hC hW hS) rfl rfl hsz rfl (lv_room hrm) hdg hcs) hS (fun _ _ h => h) (fun _ h => h) (fun u t H1 locs1 ht hvm hp hB hz hk hS1 => ?_)
  have hW1 : Hw G A τ t.heap := hB
  rw [ht] at hW1
  exact kk H1 locs1 hW1 hS1
noncomputable def eJ1_init (τ : HP) (o_ : Nat) : Option (HP) :=
  wt_bd (eJ0_init o_) fun w1 => wt_bd (hp τ o_ [13] 0 (.int (0 : Int32))) fun τ3 => some (τ3)
set_option maxHeartbeats 4000000 in
theorem wJ1_init (l : Launch) {G : HG} {A : Nat → Prop} {τ : HP} {o_ : Nat} {out_ : HP} (hd : eJ1_init τ o_ = some out_) : Met l yJ1_init (ws_ yJ1_init cJ1_init 1 none) ({ frames := 2, cells := 0, slots := 0, locals := 52 }) (hPc G A τ [.ref o_]) (hQv G out_ A) 0 0 A := by
  refine Met.ofW (cc := cJ1_init) (maxL := 1) (ret := none) (by decide) rfl ?_
  intro p_ e_ s_ m_ args_ below_ meth_ c_ s₁_ B hml hv
  obtain ⟨rfl, hW, hC⟩ := hv
  have hx := B.exec
  have hb := B.bytes
  have hr := B.returns
  have hts := atoms_spec (ws := (ws_ yJ1_init cJ1_init 1 none)) B.pre
  have hts : ∀ w ∈ lw_all, w.before _ s_ = true := fun w h => hts w (List.mem_cons_of_mem _ h)
  have hown : s_.vm.findClass RJ1 = some m_.cls := findClass_of_methodNamed B.named
  have hlocks := B.notSynchronized
  have hK := hC.1
  have hT := hC.2.1
  have hL := hC.2.2.1
  have hZ := hC.2.2.2.2.1
  have hA := hC.2.2.2.2.2
  have hin2 : meth_.name = "<init>" := (name_of_methodNamed B.named B.method).1
  have hS : va_S A s_.heap s_.heap [] := va_S.rf
  have hl := lv_entry ([.ref o_]) (n := 1) (Nat.le_of_ble_eq_true rfl)
  rw [lg_entry_eq]
  generalize (lg_sl ([.ref o_]) ++ List.replicate (1 - (lg_sl ([.ref o_])).length) Slot.unset).toArray = ls at hl ⊢
  have hl : lv_has ls 1 [(0, .ref o_)] := hl
  unfold eJ1_init at hd
  refine lv_aload_n (pc := 0) hx hb dJ1_init_0 rfl (lv_at hl 0 rfl) ?_
  obtain ⟨w1, hc2, hd⟩ := wt_bd_o hd
  refine kJ0_init (pc := 1) hx hb hml hown hts hC hW hS hc2 hl.1 (Nat.le_of_ble_eq_true rfl) ⟨Nat.le_of_ble_eq_true rfl, Nat.le_of_ble_eq_true rfl⟩ ⟨Nat.le_of_ble_eq_true rfl, Nat.le_of_ble_eq_true rfl⟩ q177 dJ1_init_1 (fun H locs hW hS => ?_)
  refine lv_aload_n (pc := 4) hx hb dJ1_init_4 rfl (lv_at hl 0 rfl) ?_
  refine lv_iconst (pc := 5) (v := 0) hx hb dJ1_init_5 (by decide) ?_
  obtain ⟨τ3, h4, hd⟩ := wt_bd_o hd
  refine hr_put (pc := 6) (ty := .int) hx hb hts hown hK hW hS h4 hf_13_0 (by decide +kernel) rfl rfl (fun _ h => h) q503 dJ1_init_6 (fun H locs hW hS => ?_)
  exact hr_vret hx hb hr hlocks (Option.some.inj hd) hW hS dJ1_init_9 (Nat.le_of_ble_eq_true rfl) (Nat.le_of_ble_eq_true rfl)
theorem kJ1_init {p : Program} {l : Launch} {e : Env} {R : Room} {s : State} {m : MethodId} {args : Array Value} {below : List Frame} {meth : Method} {c : Code} {H : Heap} {locs : List Loc} {cells slots : Nat} {Q : State → Prop} {cc : ByteArray} {pc : Nat} {ls : Array Slot} {rest : List Value} {nL : Nat} {own : String} {index : Nat} {G : HG} {A : Nat → Prop} {τ : HP} {o_ : Nat} {out_ : HP} (hx : p.tables.exec = Jvm.exec) (hb : c.code = cc) (hml : c.maxLocals = nL) (hown : s.vm.findClass own = some m.cls) (hts : ∀ w ∈ lw_all, w.before args s = true) (hC : Hcx G A s) (hW : Hw G A τ H) (hS : va_S A s.heap H locs) (hd : eJ1_init τ o_ = some out_) (hsz : ls.size = nL) (hrm : (rest.map fun v => v.category).sum ≤ 8) (hR : 3 ≤ R.frames ∧ 72 ≤ R.locals) (hcs : cells ≤ R.cells ∧ slots ≤ R.slots) (hlk : Cond.methodLink own index yJ1_init ∈ lw_all) (hdg : decode cc pc = .ok (.invokespecial index, 3)) (kk : ∀ (H1 : Heap) (locs1 : List Loc), Hw G A out_ H1 → va_S A s.heap H1 locs1 → W p l e R s m args below meth c H1 locs1 cells slots Q (F0 m (pc + 3) ls (rest))) : W p l e R s m args below meth c H locs cells slots Q (F0 m pc ls (.ref o_ :: rest)) := by
  refine va_callv (va_runI (As := []) (rest := rest) ⟨hx, hb, hml, hown, hts⟩ (wJ1_init l hd) (cwI 0 hts (lw_meth q176) rfl rfl rfl (hts _ q70) (hts _ hlk) (hts _ q175) rfl (by decide +kernel) hR) (hr_preS hC hW hS) rfl rfl hsz rfl (lv_room hrm) hdg hcs) hS (fun _ _ h => h) (fun _ h => h) (fun u t H1 locs1 ht hvm hp hB hz hk hS1 => ?_)
  have hW1 : Hw G A out_ t.heap := hB
  rw [ht] at hW1
  exact kk H1 locs1 hW1 hS1
noncomputable def eJ2_init (τ : HP) (o_ : Nat) (a0 : Int32) : Option (HP) :=
  wt_bd (eJ1_init τ o_) fun w1 => if a0 ≤ 0 then (none) else (wt_ck (¬ a0 < 0 ∧ a0.toNatClampNeg ≤ 4) <| wt_lt (hnew w1 (.inl (2, a0.toNatClampNeg, .inr (.inr (.inr (.inr (fun _ => none))))))) fun τ5 => wt_bd (hp τ5 o_ [13] 1 (.ref w1.2)) fun τ6 => some (τ6))
set_option maxHeartbeats 4000000 in
theorem wJ2_init (l : Launch) {G : HG} {A : Nat → Prop} {τ : HP} {o_ : Nat} {a0 : Int32} {out_ : HP} (hd : eJ2_init τ o_ a0 = some out_) : Met l yJ2_init (ws_ yJ2_init cJ2_init 2 none) ({ frames := 3, cells := 1, slots := 4, locals := 72 }) (hPc G A τ [.ref o_, .int a0]) (hQv G out_ A) 1 4 A := by
  refine Met.ofW (cc := cJ2_init) (maxL := 2) (ret := none) (by decide) rfl ?_
  intro p_ e_ s_ m_ args_ below_ meth_ c_ s₁_ B hml hv
  obtain ⟨rfl, hW, hC⟩ := hv
  have hx := B.exec
  have hb := B.bytes
  have hr := B.returns
  have hts := atoms_spec (ws := (ws_ yJ2_init cJ2_init 2 none)) B.pre
  have hts : ∀ w ∈ lw_all, w.before _ s_ = true := fun w h => hts w (List.mem_cons_of_mem _ h)
  have hown : s_.vm.findClass RJ2 = some m_.cls := findClass_of_methodNamed B.named
  have hlocks := B.notSynchronized
  have hK := hC.1
  have hT := hC.2.1
  have hL := hC.2.2.1
  have hZ := hC.2.2.2.2.1
  have hA := hC.2.2.2.2.2
  have hin2 : meth_.name = "<init>" := (name_of_methodNamed B.named B.method).1
  have hS : va_S A s_.heap s_.heap [] := va_S.rf
  have hl := lv_entry ([.ref o_, .int a0]) (n := 2) (Nat.le_of_ble_eq_true rfl)
  rw [lg_entry_eq]
  generalize (lg_sl ([.ref o_, .int a0]) ++ List.replicate (2 - (lg_sl ([.ref o_, .int a0])).length) Slot.unset).toArray = ls at hl ⊢
  have hl : lv_has ls 2 [(0, .ref o_), (1, .int a0)] := hl
  unfold eJ2_init at hd
  refine lv_aload_n (pc := 0) hx hb dJ2_init_0 rfl (lv_at hl 0 rfl) ?_
  obtain ⟨w1, hc2, hd⟩ := wt_bd_o hd
  refine kJ1_init (pc := 1) hx hb hml hown hts hC hW hS hc2 hl.1 (Nat.le_of_ble_eq_true rfl) ⟨Nat.le_of_ble_eq_true rfl, Nat.le_of_ble_eq_true rfl⟩ ⟨Nat.le_of_ble_eq_true rfl, Nat.le_of_ble_eq_true rfl⟩ q174 dJ2_init_1 (fun H locs hW hS => ?_)
  refine lv_iload_n (pc := 4) hx hb dJ2_init_4 rfl (lv_at hl 1 rfl) ?_
  refine lv_if_le (pc := 5) (tgt := 19) hx hb dJ2_init_5 (by decide) (fun c3 => ?_) (fun c3 => ?_)
  · have hd := wt_it hd c3
    exact absurd hd (by intro h; cases h)
  · have hd := wt_if hd c3
    refine lv_aload_n (pc := 8) hx hb dJ2_init_8 rfl (lv_at hl 0 rfl) ?_
    refine lv_iload_n (pc := 9) hx hb dJ2_init_9 rfl (lv_at hl 1 rfl) ?_
    obtain ⟨h4, hd⟩ := wt_ck_o hd
    obtain ⟨τ5, eτ5, hd⟩ := wt_lt_o hd
    refine hr_newR (pc := 10) (t := 2) (N := a0.toNatClampNeg) hx hb hts hown hK hT.2.1 hW hS hA rfl q181 h4.1 rfl (Nat.le_trans h4.2 (by decide)) eτ5 (Nat.le_of_ble_eq_true rfl) (Nat.le_trans (Nat.add_le_add_left h4.2 _) (Nat.le_of_ble_eq_true rfl)) dJ2_init_10 (fun H hW hS => ?_)
    refine W.widen (k := 1) (n := 4) (Nat.le_refl _) (Nat.add_le_add_left h4.2 _) ?_
    obtain ⟨τ6, h7, hd⟩ := wt_bd_o hd
    refine hr_put (pc := 13) (ty := (.array (.object "java/lang/Object"))) hx hb hts hown hK hW hS h7 hf_13_1 (by decide +kernel) rfl rfl (fun _ h => h) q501 dJ2_init_13 (fun H locs hW hS => ?_)
    refine lv_goto (pc := 16) (tgt := 60) hx hb dJ2_init_16 (by decide) ?_
    exact hr_vret hx hb hr hlocks (Option.some.inj hd) hW hS dJ2_init_60 (Nat.le_of_ble_eq_true rfl) (Nat.le_of_ble_eq_true rfl)
theorem kJ2_init {p : Program} {l : Launch} {e : Env} {R : Room} {s : State} {m : MethodId} {args : Array Value} {below : List Frame} {meth : Method} {c : Code} {H : Heap} {locs : List Loc} {cells slots : Nat} {Q : State → Prop} {cc : ByteArray} {pc : Nat} {ls : Array Slot} {rest : List Value} {nL : Nat} {own : String} {index : Nat} {G : HG} {A : Nat → Prop} {τ : HP} {o_ : Nat} {a0 : Int32} {out_ : HP} (hx : p.tables.exec = Jvm.exec) (hb : c.code = cc) (hml : c.maxLocals = nL) (hown : s.vm.findClass own = some m.cls) (hts : ∀ w ∈ lw_all, w.before args s = true) (hC : Hcx G A s) (hW : Hw G A τ H) (hS : va_S A s.heap H locs) (hd : eJ2_init τ o_ a0 = some out_) (hsz : ls.size = nL) (hrm : (rest.map fun v => v.category).sum ≤ 8) (hR : 4 ≤ R.frames ∧ 93 ≤ R.locals) (hcs : (cells + 1) ≤ R.cells ∧ (slots + 4) ≤ R.slots) (hlk : Cond.methodLink own index yJ2_init ∈ lw_all) (hdg : decode cc pc = .ok (.invokespecial index, 3)) (kk : ∀ (H1 : Heap) (locs1 : List Loc), Hw G A out_ H1 → va_S A s.heap H1 locs1 → W p l e R s m args below meth c H1 locs1 (cells + 1) (slots + 4) Q (F0 m (pc + 3) ls (rest))) : W p l e R s m args below meth c H locs cells slots Q (F0 m pc ls (.int a0 :: .ref o_ :: rest)) := by
  refine va_callv (va_runI (As := [.int a0]) (rest := rest) ⟨hx, hb, hml, hown, hts⟩ (wJ2_init l hd) (cwI 1 hts (lw_meth q173) rfl rfl rfl (hts _ q71) (hts _ hlk) (hts _ q172) rfl (by decide +kernel) hR) (hr_preS hC hW hS) rfl rfl hsz rfl (lv_room hrm) hdg hcs) hS (fun _ _ h => h) (fun _ h => h) (fun u t H1 locs1 ht hvm hp hB hz hk hS1 => ?_)
  have hW1 : Hw G A out_ t.heap := hB
  rw [ht] at hW1
  exact kk H1 locs1 hW1 hS1
noncomputable def eJ2_size (τ : HP) (o_ : Nat) : Option (Int32) :=
  wt_bd (hgI τ o_ [13] 2) fun f1 => some f1
set_option maxHeartbeats 4000000 in
theorem wJ2_size (l : Launch) {G : HG} {A : Nat → Prop} {τ : HP} {o_ : Nat} {out_ : Int32} (hd : eJ2_size τ o_ = some out_) : Met l yJ2_size (ws_ yJ2_size cJ2_size 1 (some .int)) ({ frames := 0, cells := 0, slots := 0, locals := 0 }) (hPc G A τ [.ref o_]) (hQi G out_ τ A) 0 0 A := by
  refine Met.ofW (cc := cJ2_size) (maxL := 1) (ret := (some .int)) (by decide) rfl ?_
  intro p_ e_ s_ m_ args_ below_ meth_ c_ s₁_ B hml hv
  obtain ⟨rfl, hW, hC⟩ := hv
  have hx := B.exec
  have hb := B.bytes
  have hr := B.returns
  have hts := atoms_spec (ws := (ws_ yJ2_size cJ2_size 1 (some .int))) B.pre
  have hts : ∀ w ∈ lw_all, w.before _ s_ = true := fun w h => hts w (List.mem_cons_of_mem _ h)
  have hown : s_.vm.findClass RJ2 = some m_.cls := findClass_of_methodNamed B.named
  have hlocks := B.notSynchronized
  have hK := hC.1
  have hT := hC.2.1
  have hL := hC.2.2.1
  have hZ := hC.2.2.2.2.1
  have hA := hC.2.2.2.2.2
  have hS : va_S A s_.heap s_.heap [] := va_S.rf
  have hl := lv_entry ([.ref o_]) (n := 1) (Nat.le_of_ble_eq_true rfl)
  rw [lg_entry_eq]
  generalize (lg_sl ([.ref o_]) ++ List.replicate (1 - (lg_sl ([.ref o_])).length) Slot.unset).toArray = ls at hl ⊢
  have hl : lv_has ls 1 [(0, .ref o_)] := hl
  unfold eJ2_size at hd
  refine lv_aload_n (pc := 0) hx hb dJ2_size_0 rfl (lv_at hl 0 rfl) ?_
  obtain ⟨f1, h2, hd⟩ := wt_bd_o hd
  refine hr_get (pc := 1) hx hb hts hown hK hW (hgI_o h2) hf_13_2 (fun _ h => h) q502 dJ2_size_1 ?_
  exact hr_iret hx hb hr rfl hlocks (Option.some.inj hd) rfl hW hS dJ2_size_4 (Nat.le_of_ble_eq_true rfl) (Nat.le_of_ble_eq_true rfl)
theorem kJ2_size {p : Program} {l : Launch} {e : Env} {R : Room} {s : State} {m : MethodId} {args : Array Value} {below : List Frame} {meth : Method} {c : Code} {H : Heap} {locs : List Loc} {cells slots : Nat} {Q : State → Prop} {cc : ByteArray} {pc : Nat} {ls : Array Slot} {rest : List Value} {nL : Nat} {own : String} {index : Nat} {G : HG} {A : Nat → Prop} {τ : HP} {o_ : Nat} {out_ : Int32} (hx : p.tables.exec = Jvm.exec) (hb : c.code = cc) (hml : c.maxLocals = nL) (hown : s.vm.findClass own = some m.cls) (hts : ∀ w ∈ lw_all, w.before args s = true) (hC : Hcx G A s) (hW : Hw G A τ H) (hS : va_S A s.heap H locs) (hrc : hcl τ o_ = some 13) (hd : eJ2_size τ o_ = some out_) (hsz : ls.size = nL) (hrm : (rest.map fun v => v.category).sum ≤ 8) (hR : 1 ≤ R.frames ∧ 20 ≤ R.locals) (hcs : cells ≤ R.cells ∧ slots ≤ R.slots) (hlk : Cond.methodLink own index yJ2_size ∈ lw_all) (hdg : decode cc pc = .ok (.invokevirtual index, 3)) (kk : ∀ (H1 : Heap) (locs1 : List Loc), Hw G A τ H1 → va_S A s.heap H1 locs1 → W p l e R s m args below meth c H1 locs1 cells slots Q (F0 m (pc + 3) ls (.int out_ :: rest))) : W p l e R s m args below meth c H locs cells slots Q (F0 m pc ls (.ref o_ :: rest)) := by
  refine va_calli (va_runV (As := []) (rest := rest) ⟨hx, hb, hml, hown, hts⟩ (wJ2_size l hd) (cwV 0 hts (lw_V hlk q584 q585 q71 q586) rfl rfl rfl (by decide +kernel) hR) (hr_preV hC hW hS hrc rfl rfl) rfl rfl hsz rfl (lv_room hrm) hdg hcs) hS (fun _ _ h => h) (fun _ h => h) (fun r u t H1 locs1 ht hvm hp hB hz hk hS1 => ?_)
  have hp : r = out_ := hp
  subst hp
  have hW1 : Hw G A τ t.heap := hB
  rw [ht] at hW1
  exact kk H1 locs1 hW1 hS1
noncomputable def eJ2_isEmpty (τ : HP) (o_ : Nat) : Option (Int32) :=
  wt_bd (hgI τ o_ [13] 2) fun f1 => if f1 = 0 then (some (1 : Int32)) else (some (0 : Int32))
set_option maxHeartbeats 4000000 in
theorem wJ2_isEmpty (l : Launch) {G : HG} {A : Nat → Prop} {τ : HP} {o_ : Nat} {out_ : Int32} (hd : eJ2_isEmpty τ o_ = some out_) : Met l yJ2_isEmpty (ws_ yJ2_isEmpty cJ2_isEmpty 1 (some .boolean)) ({ frames := 0, cells := 0, slots := 0, locals := 0 }) (hPc G A τ [.ref o_]) (hQi G out_ τ A) 0 0 A := by
  refine Met.ofW (cc := cJ2_isEmpty) (maxL := 1) (ret := (some .boolean)) (by decide) rfl ?_
  intro p_ e_ s_ m_ args_ below_ meth_ c_ s₁_ B hml hv
  obtain ⟨rfl, hW, hC⟩ := hv
  have hx := B.exec
  have hb := B.bytes
  have hr := B.returns
  have hts := atoms_spec (ws := (ws_ yJ2_isEmpty cJ2_isEmpty 1 (some .boolean))) B.pre
  have hts : ∀ w ∈ lw_all, w.before _ s_ = true := fun w h => hts w (List.mem_cons_of_mem _ h)
  have hown : s_.vm.findClass RJ2 = some m_.cls := findClass_of_methodNamed B.named
  have hlocks := B.notSynchronized
  have hK := hC.1
  have hT := hC.2.1
  have hL := hC.2.2.1
  have hZ := hC.2.2.2.2.1
  have hA := hC.2.2.2.2.2
  have hS : va_S A s_.heap s_.heap [] := va_S.rf
  have hl := lv_entry ([.ref o_]) (n := 1) (Nat.le_of_ble_eq_true rfl)
  rw [lg_entry_eq]
  generalize (lg_sl ([.ref o_]) ++ List.replicate (1 - (lg_sl ([.ref o_])).length) Slot.unset).toArray = ls at hl ⊢
  have hl : lv_has ls 1 [(0, .ref o_)] := hl
  unfold eJ2_isEmpty at hd
  refine lv_aload_n (pc := 0) hx hb dJ2_isEmpty_0 rfl (lv_at hl 0 rfl) ?_
  obtain ⟨f1, h2, hd⟩ := wt_bd_o hd
  refine hr_get (pc := 1) hx hb hts hown hK hW (hgI_o h2) hf_13_2 (fun _ h => h) q502 dJ2_isEmpty_1 ?_
  refine lv_if_ne (pc := 4) (tgt := 11) hx hb dJ2_isEmpty_4 (by decide) (fun c3 => ?_) (fun c3 => ?_)
  · have hd := wt_if hd c3
    refine lv_iconst (pc := 11) (v := 0) hx hb dJ2_isEmpty_11 (by decide) ?_
    exact hr_iret hx hb hr rfl hlocks (Option.some.inj hd) rfl hW hS dJ2_isEmpty_12 (Nat.le_of_ble_eq_true rfl) (Nat.le_of_ble_eq_true rfl)
  · have hd := wt_it hd c3
    refine lv_iconst (pc := 7) (v := 1) hx hb dJ2_isEmpty_7 (by decide) ?_
    refine lv_goto (pc := 8) (tgt := 12) hx hb dJ2_isEmpty_8 (by decide) ?_
    exact hr_iret hx hb hr rfl hlocks (Option.some.inj hd) rfl hW hS dJ2_isEmpty_12 (Nat.le_of_ble_eq_true rfl) (Nat.le_of_ble_eq_true rfl)
theorem kJ2_isEmpty {p : Program} {l : Launch} {e : Env} {R : Room} {s : State} {m : MethodId} {args : Array Value} {below : List Frame} {meth : Method} {c : Code} {H : Heap} {locs : List Loc} {cells slots : Nat} {Q : State → Prop} {cc : ByteArray} {pc : Nat} {ls : Array Slot} {rest : List Value} {nL : Nat} {own : String} {index : Nat} {G : HG} {A : Nat → Prop} {τ : HP} {o_ : Nat} {out_ : Int32} (hx : p.tables.exec = Jvm.exec) (hb : c.code = cc) (hml : c.maxLocals = nL) (hown : s.vm.findClass own = some m.cls) (hts : ∀ w ∈ lw_all, w.before args s = true) (hC : Hcx G A s) (hW : Hw G A τ H) (hS : va_S A s.heap H locs) (hrc : hcl τ o_ = some 13) (hd : eJ2_isEmpty τ o_ = some out_) (hsz : ls.size = nL) (hrm : (rest.map fun v => v.category).sum ≤ 8) (hR : 1 ≤ R.frames ∧ 20 ≤ R.locals) (hcs : cells ≤ R.cells ∧ slots ≤ R.slots) (hlk : Cond.methodLink own index yJ2_isEmpty ∈ lw_all) (hdg : decode cc pc = .ok (.invokevirtual index, 3)) (kk : ∀ (H1 : Heap) (locs1 : List Loc), Hw G A τ H1 → va_S A s.heap H1 locs1 → W p l e R s m args below meth c H1 locs1 cells slots Q (F0 m (pc + 3) ls (.int out_ :: rest))) : W p l e R s m args below meth c H locs cells slots Q (F0 m pc ls (.ref o_ :: rest)) := by
  refine va_calli (va_runV (As := []) (rest := rest) ⟨hx, hb, hml, hown, hts⟩ (wJ2_isEmpty l hd) (cwV 0 hts (lw_V hlk q911 q912 q71 q913) rfl rfl rfl (by decide +kernel) hR) (hr_preV hC hW hS hrc rfl rfl) rfl rfl hsz rfl (lv_room hrm) hdg hcs) hS (fun _ _ h => h) (fun _ h => h) (fun r u t H1 locs1 ht hvm hp hB hz hk hS1 => ?_)
  have hp : r = out_ := hp
  subst hp
  have hW1 : Hw G A τ t.heap := hB
  rw [ht] at hW1
  exact kk H1 locs1 hW1 hS1
noncomputable def eJ14_checkIndex (a0 : Int32) (a1 : Int32) : Option (Int32) :=
  wt_bd (if a0 < 0 then (some (.inl ())) else (if a0 < a1 then (some (.inr (a0))) else (some (.inl ())))) fun w1 => wt_rs w1 (fun w1 => none) (fun z_ => some z_)
set_option maxHeartbeats 4000000 in
theorem wJ14_checkIndex (l : Launch) {G : HG} {A : Nat → Prop} {τ : HP} {a0 : Int32} {a1 : Int32} {out_ : Int32} (hd : eJ14_checkIndex a0 a1 = some out_) : Met l yJ14_checkIndex (ws_ yJ14_checkIndex cJ14_checkIndex 3 (some .int)) ({ frames := 0, cells := 0, slots := 0, locals := 0 }) (hPc G A τ [.int a0, .int a1, .null]) (hQi G out_ τ A) 0 0 A := by
  refine Met.ofW (cc := cJ14_checkIndex) (maxL := 3) (ret := (some .int)) (by decide) rfl ?_
  intro p_ e_ s_ m_ args_ below_ meth_ c_ s₁_ B hml hv
  obtain ⟨rfl, hW, hC⟩ := hv
  have hx := B.exec
  have hb := B.bytes
  have hr := B.returns
  have hts := atoms_spec (ws := (ws_ yJ14_checkIndex cJ14_checkIndex 3 (some .int))) B.pre
  have hts : ∀ w ∈ lw_all, w.before _ s_ = true := fun w h => hts w (List.mem_cons_of_mem _ h)
  have hown : s_.vm.findClass RJ14 = some m_.cls := findClass_of_methodNamed B.named
  have hlocks := B.notSynchronized
  have hK := hC.1
  have hT := hC.2.1
  have hL := hC.2.2.1
  have hZ := hC.2.2.2.2.1
  have hA := hC.2.2.2.2.2
  have hS : va_S A s_.heap s_.heap [] := va_S.rf
  have hl := lv_entry ([.int a0, .int a1, .null]) (n := 3) (Nat.le_of_ble_eq_true rfl)
  rw [lg_entry_eq]
  generalize (lg_sl ([.int a0, .int a1, .null]) ++ List.replicate (3 - (lg_sl ([.int a0, .int a1, .null])).length) Slot.unset).toArray = ls at hl ⊢
  have hl : lv_has ls 3 [(0, .int a0), (1, .int a1), (2, .null)] := hl
  unfold eJ14_checkIndex at hd
  refine lv_iload_n (pc := 0) hx hb dJ14_checkIndex_0 rfl (lv_at hl 0 rfl) ?_
  obtain ⟨w1, hj2, hq3⟩ := wt_bd_o hd
  have hX4 : ∀ w1_ : Unit, (Sum.inl w1_ : (Unit) ⊕ _) = w1 → ∀ (H : Heap) (locs : List Loc) (ls : Array Slot), Hw G A τ H → va_S A s_.heap H locs → lv_has ls 3 [(0, .int a0), (1, .int a1), (2, .null)] → W p_ l e_ (headSpec (ws_ yJ14_checkIndex cJ14_checkIndex 3 (some .int)) ({ frames := 0, cells := 0, slots := 0, locals := 0 })).room s_ m_ ([.int a0, .int a1, .null] : List Value).toArray below_ meth_ c_ H locs 0 0 (MQ below_ (hQi G out_ τ A) ([.int a0, .int a1, .null] : List Value).toArray s_ 0 0 A) (F0 m_ 9 ls []) := by
    intro w1_ hw_
    have hd := wt_rs_l hw_ hq3
    clear hj2 hq3
    intro H locs ls hW hS hl
    exact absurd hd (by intro h; cases h)
  have hd := hj2
  refine lv_if_lt (pc := 1) (tgt := 9) hx hb dJ14_checkIndex_1 (by decide) (fun c5 => ?_) (fun c5 => ?_)
  · have hd := wt_it hd c5
    exact hX4 () (Option.some.inj hd) _ _ _ hW hS hl
  · have hd := wt_if hd c5
    refine lv_iload_n (pc := 4) hx hb dJ14_checkIndex_4 rfl (lv_at hl 0 rfl) ?_
    refine lv_iload_n (pc := 5) hx hb dJ14_checkIndex_5 rfl (lv_at hl 1 rfl) ?_
    refine lv_icmp_lt (pc := 6) (tgt := 16) hx hb dJ14_checkIndex_6 (by decide) (fun c6 => ?_) (fun c6 => ?_)
    · have hd := wt_it hd c6
      refine lv_iload_n (pc := 16) hx hb dJ14_checkIndex_16 rfl (lv_at hl 0 rfl) ?_
      have hd := wt_rs_r (Option.some.inj hd) hq3
      exact hr_iret hx hb hr rfl hlocks (Option.some.inj hd) rfl hW hS dJ14_checkIndex_17 (Nat.le_of_ble_eq_true rfl) (Nat.le_of_ble_eq_true rfl)
    · have hd := wt_if hd c6
      exact hX4 () (Option.some.inj hd) _ _ _ hW hS hl
theorem kJ14_checkIndex {p : Program} {l : Launch} {e : Env} {R : Room} {s : State} {m : MethodId} {args : Array Value} {below : List Frame} {meth : Method} {c : Code} {H : Heap} {locs : List Loc} {cells slots : Nat} {Q : State → Prop} {cc : ByteArray} {pc : Nat} {ls : Array Slot} {rest : List Value} {nL : Nat} {own : String} {index : Nat} {G : HG} {A : Nat → Prop} {τ : HP} {a0 : Int32} {a1 : Int32} {out_ : Int32} (hx : p.tables.exec = Jvm.exec) (hb : c.code = cc) (hml : c.maxLocals = nL) (hown : s.vm.findClass own = some m.cls) (hts : ∀ w ∈ lw_all, w.before args s = true) (hC : Hcx G A s) (hW : Hw G A τ H) (hS : va_S A s.heap H locs) (hd : eJ14_checkIndex a0 a1 = some out_) (hsz : ls.size = nL) (hrm : (rest.map fun v => v.category).sum ≤ 8) (hR : 1 ≤ R.frames ∧ 22 ≤ R.locals) (hcs : cells ≤ R.cells ∧ slots ≤ R.slots) (hlk : Cond.methodLink own index yJ14_checkIndex ∈ lw_all) (hdg : decode cc pc = .ok (.invokestatic index, 3)) (kk : ∀ (H1 : Heap) (locs1 : List Loc), Hw G A τ H1 → va_S A s.heap H1 locs1 → W p l e R s m args below meth c H1 locs1 cells slots Q (F0 m (pc + 3) ls (.int out_ :: rest))) : W p l e R s m args below meth c H locs cells slots Q (F0 m pc ls (.null :: .int a1 :: .int a0 :: rest)) := by
  refine va_calli (va_runS (As := [.int a0, .int a1, .null]) (rest := rest) ⟨hx, hb, hml, hown, hts⟩ (wJ14_checkIndex l hd) (va_cwS 3 hts (lw_S hlk q595 q84 q596) rfl rfl rfl (by decide +kernel) hR) (hr_preS hC hW hS) rfl rfl hsz rfl (lv_room hrm) hdg hcs) hS (fun _ _ h => h) (fun _ h => h) (fun r u t H1 locs1 ht hvm hp hB hz hk hS1 => ?_)
  have hp : r = out_ := hp
  subst hp
  have hW1 : Hw G A τ t.heap := hB
  rw [ht] at hW1
  exact kk H1 locs1 hW1 hS1
noncomputable def eJ17_checkIndex (a0 : Int32) (a1 : Int32) : Option (Int32) :=
  wt_bd (eJ14_checkIndex a0 a1) fun w1 => some w1
set_option maxHeartbeats 4000000 in
theorem wJ17_checkIndex (l : Launch) {G : HG} {A : Nat → Prop} {τ : HP} {a0 : Int32} {a1 : Int32} {out_ : Int32} (hd : eJ17_checkIndex a0 a1 = some out_) : Met l yJ17_checkIndex (ws_ yJ17_checkIndex cJ17_checkIndex 2 (some .int)) ({ frames := 1, cells := 0, slots := 0, locals := 22 }) (hPc G A τ [.int a0, .int a1]) (hQi G out_ τ A) 0 0 A := by
  refine Met.ofW (cc := cJ17_checkIndex) (maxL := 2) (ret := (some .int)) (by decide) rfl ?_
  intro p_ e_ s_ m_ args_ below_ meth_ c_ s₁_ B hml hv
  obtain ⟨rfl, hW, hC⟩ := hv
  have hx := B.exec
  have hb := B.bytes
  have hr := B.returns
  have hts := atoms_spec (ws := (ws_ yJ17_checkIndex cJ17_checkIndex 2 (some .int))) B.pre
  have hts : ∀ w ∈ lw_all, w.before _ s_ = true := fun w h => hts w (List.mem_cons_of_mem _ h)
  have hown : s_.vm.findClass RJ17 = some m_.cls := findClass_of_methodNamed B.named
  have hlocks := B.notSynchronized
  have hK := hC.1
  have hT := hC.2.1
  have hL := hC.2.2.1
  have hZ := hC.2.2.2.2.1
  have hA := hC.2.2.2.2.2
  have hS : va_S A s_.heap s_.heap [] := va_S.rf
  have hl := lv_entry ([.int a0, .int a1]) (n := 2) (Nat.le_of_ble_eq_true rfl)
  rw [lg_entry_eq]
  generalize (lg_sl ([.int a0, .int a1]) ++ List.replicate (2 - (lg_sl ([.int a0, .int a1])).length) Slot.unset).toArray = ls at hl ⊢
  have hl : lv_has ls 2 [(0, .int a0), (1, .int a1)] := hl
  unfold eJ17_checkIndex at hd
  refine lv_iload_n (pc := 0) hx hb dJ17_checkIndex_0 rfl (lv_at hl 0 rfl) ?_
  refine lv_iload_n (pc := 1) hx hb dJ17_checkIndex_1 rfl (lv_at hl 1 rfl) ?_
  refine lv_null (pc := 2) hx hb dJ17_checkIndex_2 ?_
  obtain ⟨w1, hc2, hd⟩ := wt_bd_o hd
  refine kJ14_checkIndex (pc := 3) hx hb hml hown hts hC hW hS hc2 hl.1 (Nat.le_of_ble_eq_true rfl) ⟨Nat.le_of_ble_eq_true rfl, Nat.le_of_ble_eq_true rfl⟩ ⟨Nat.le_of_ble_eq_true rfl, Nat.le_of_ble_eq_true rfl⟩ q594 dJ17_checkIndex_3 (fun H locs hW hS => ?_)
  exact hr_iret hx hb hr rfl hlocks (Option.some.inj hd) rfl hW hS dJ17_checkIndex_6 (Nat.le_of_ble_eq_true rfl) (Nat.le_of_ble_eq_true rfl)
theorem kJ17_checkIndex {p : Program} {l : Launch} {e : Env} {R : Room} {s : State} {m : MethodId} {args : Array Value} {below : List Frame} {meth : Method} {c : Code} {H : Heap} {locs : List Loc} {cells slots : Nat} {Q : State → Prop} {cc : ByteArray} {pc : Nat} {ls : Array Slot} {rest : List Value} {nL : Nat} {own : String} {index : Nat} {G : HG} {A : Nat → Prop} {τ : HP} {a0 : Int32} {a1 : Int32} {out_ : Int32} (hx : p.tables.exec = Jvm.exec) (hb : c.code = cc) (hml : c.maxLocals = nL) (hown : s.vm.findClass own = some m.cls) (hts : ∀ w ∈ lw_all, w.before args s = true) (hC : Hcx G A s) (hW : Hw G A τ H) (hS : va_S A s.heap H locs) (hd : eJ17_checkIndex a0 a1 = some out_) (hsz : ls.size = nL) (hrm : (rest.map fun v => v.category).sum ≤ 8) (hR : 2 ≤ R.frames ∧ 43 ≤ R.locals) (hcs : cells ≤ R.cells ∧ slots ≤ R.slots) (hlk : Cond.methodLink own index yJ17_checkIndex ∈ lw_all) (hdg : decode cc pc = .ok (.invokestatic index, 3)) (kk : ∀ (H1 : Heap) (locs1 : List Loc), Hw G A τ H1 → va_S A s.heap H1 locs1 → W p l e R s m args below meth c H1 locs1 cells slots Q (F0 m (pc + 3) ls (.int out_ :: rest))) : W p l e R s m args below meth c H locs cells slots Q (F0 m pc ls (.int a1 :: .int a0 :: rest)) := by
  refine va_calli (va_runS (As := [.int a0, .int a1]) (rest := rest) ⟨hx, hb, hml, hown, hts⟩ (wJ17_checkIndex l hd) (va_cwS 2 hts (lw_S hlk q592 q93 q593) rfl rfl rfl (by decide +kernel) hR) (hr_preS hC hW hS) rfl rfl hsz rfl (lv_room hrm) hdg hcs) hS (fun _ _ h => h) (fun _ h => h) (fun r u t H1 locs1 ht hvm hp hB hz hk hS1 => ?_)
  have hp : r = out_ := hp
  subst hp
  have hW1 : Hw G A τ t.heap := hB
  rw [ht] at hW1
  exact kk H1 locs1 hW1 hS1
noncomputable def eJ2_elementData (τ : HP) (o_ : Nat) (a0 : Int32) : Option (Nat) :=
  wt_bd (hgA τ o_ [13] 1) fun ad1 => wt_bd (haR τ ad1 2) fun z3 => wt_ck (vp_in a0 z3.1) <| wt_bd ((z3.2 a0.toNatClampNeg)) fun ad6 => some ad6
set_option maxHeartbeats 4000000 in
theorem wJ2_elementData (l : Launch) {G : HG} {A : Nat → Prop} {τ : HP} {o_ : Nat} {a0 : Int32} {out_ : Nat} (hd : eJ2_elementData τ o_ a0 = some out_) : Met l yJ2_elementData (ws_ yJ2_elementData cJ2_elementData 2 (some (.object "java/lang/Object"))) ({ frames := 0, cells := 0, slots := 0, locals := 0 }) (hPc G A τ [.ref o_, .int a0]) (hQr G out_ τ A) 0 0 A := by
  refine Met.ofW (cc := cJ2_elementData) (maxL := 2) (ret := (some (.object "java/lang/Object"))) (by decide) rfl ?_
  intro p_ e_ s_ m_ args_ below_ meth_ c_ s₁_ B hml hv
  obtain ⟨rfl, hW, hC⟩ := hv
  have hx := B.exec
  have hb := B.bytes
  have hr := B.returns
  have hts := atoms_spec (ws := (ws_ yJ2_elementData cJ2_elementData 2 (some (.object "java/lang/Object")))) B.pre
  have hts : ∀ w ∈ lw_all, w.before _ s_ = true := fun w h => hts w (List.mem_cons_of_mem _ h)
  have hown : s_.vm.findClass RJ2 = some m_.cls := findClass_of_methodNamed B.named
  have hlocks := B.notSynchronized
  have hK := hC.1
  have hT := hC.2.1
  have hL := hC.2.2.1
  have hZ := hC.2.2.2.2.1
  have hA := hC.2.2.2.2.2
  have hS : va_S A s_.heap s_.heap [] := va_S.rf
  have hl := lv_entry ([.ref o_, .int a0]) (n := 2) (Nat.le_of_ble_eq_true rfl)
  rw [lg_entry_eq]
  generalize (lg_sl ([.ref o_, .int a0]) ++ List.replicate (2 - (lg_sl ([.ref o_, .int a0])).length) Slot.unset).toArray = ls at hl ⊢
  have hl : lv_has ls 2 [(0, .ref o_), (1, .int a0)] := hl
  unfold eJ2_elementData at hd
  refine lv_aload_n (pc := 0) hx hb dJ2_elementData_0 rfl (lv_at hl 0 rfl) ?_
  obtain ⟨ad1, h2, hd⟩ := wt_bd_o hd
  refine hr_get (pc := 1) hx hb hts hown hK hW (hgA_o h2) hf_13_1 (fun _ h => h) q501 dJ2_elementData_1 ?_
  refine lv_iload_n (pc := 4) hx hb dJ2_elementData_4 rfl (lv_at hl 1 rfl) ?_
  obtain ⟨z3, h4, hd⟩ := wt_bd_o hd
  obtain ⟨h5, hd⟩ := wt_ck_o hd
  refine hr_aald (pc := 5) (t := 2) hx hb hK hW h4 rfl h5 dJ2_elementData_5 ?_
  obtain ⟨ad6, h7, hd⟩ := wt_bd_o hd
  refine lv_rfe h7 ?_
  exact hr_aret hx hb hr (Or.inl ⟨_, rfl⟩) hlocks (Option.some.inj hd) rfl hW hS dJ2_elementData_6 (Nat.le_of_ble_eq_true rfl) (Nat.le_of_ble_eq_true rfl)
theorem kJ2_elementData {p : Program} {l : Launch} {e : Env} {R : Room} {s : State} {m : MethodId} {args : Array Value} {below : List Frame} {meth : Method} {c : Code} {H : Heap} {locs : List Loc} {cells slots : Nat} {Q : State → Prop} {cc : ByteArray} {pc : Nat} {ls : Array Slot} {rest : List Value} {nL : Nat} {own : String} {index : Nat} {G : HG} {A : Nat → Prop} {τ : HP} {o_ : Nat} {a0 : Int32} {out_ : Nat} (hx : p.tables.exec = Jvm.exec) (hb : c.code = cc) (hml : c.maxLocals = nL) (hown : s.vm.findClass own = some m.cls) (hts : ∀ w ∈ lw_all, w.before args s = true) (hC : Hcx G A s) (hW : Hw G A τ H) (hS : va_S A s.heap H locs) (hrc : hcl τ o_ = some 13) (hd : eJ2_elementData τ o_ a0 = some out_) (hsz : ls.size = nL) (hrm : (rest.map fun v => v.category).sum ≤ 8) (hR : 1 ≤ R.frames ∧ 21 ≤ R.locals) (hcs : cells ≤ R.cells ∧ slots ≤ R.slots) (hlk : Cond.methodLink own index yJ2_elementData ∈ lw_all) (hdg : decode cc pc = .ok (.invokevirtual index, 3)) (kk : ∀ (H1 : Heap) (locs1 : List Loc), Hw G A τ H1 → va_S A s.heap H1 locs1 → W p l e R s m args below meth c H1 locs1 cells slots Q (F0 m (pc + 3) ls (.ref out_ :: rest))) : W p l e R s m args below meth c H locs cells slots Q (F0 m pc ls (.int a0 :: .ref o_ :: rest)) := by
  refine va_callr (va_runV (As := [.int a0]) (rest := rest) ⟨hx, hb, hml, hown, hts⟩ (wJ2_elementData l hd) (cwV 1 hts (lw_V hlk q598 q599 q71 q600) rfl rfl rfl (by decide +kernel) hR) (hr_preV hC hW hS hrc rfl rfl) rfl rfl hsz rfl (lv_room hrm) hdg hcs) hS (fun _ _ h => h) (fun _ h => h) (fun u ra t H1 locs1 ht hvm hp hB hz hk hS1 => ?_)
  have hp : ra = out_ := hB.1
  subst hp
  have hW1 : Hw G A τ t.heap := hB.2
  rw [ht] at hW1
  exact kk H1 locs1 hW1 hS1
noncomputable def eJ2_get (τ : HP) (o_ : Nat) (a0 : Int32) : Option (Nat) :=
  wt_bd (hgI τ o_ [13] 2) fun f1 => wt_bd (eJ17_checkIndex a0 f1) fun w3 => wt_ck (hcl τ o_ = some 13) <| wt_bd (eJ2_elementData τ o_ a0) fun w6 => some w6
set_option maxHeartbeats 4000000 in
theorem wJ2_get (l : Launch) {G : HG} {A : Nat → Prop} {τ : HP} {o_ : Nat} {a0 : Int32} {out_ : Nat} (hd : eJ2_get τ o_ a0 = some out_) : Met l yJ2_get (ws_ yJ2_get cJ2_get 2 (some (.object "java/lang/Object"))) ({ frames := 2, cells := 0, slots := 0, locals := 43 }) (hPc G A τ [.ref o_, .int a0]) (hQr G out_ τ A) 0 0 A := by
  refine Met.ofW (cc := cJ2_get) (maxL := 2) (ret := (some (.object "java/lang/Object"))) (by decide) rfl ?_
  intro p_ e_ s_ m_ args_ below_ meth_ c_ s₁_ B hml hv
  obtain ⟨rfl, hW, hC⟩ := hv
  have hx := B.exec
  have hb := B.bytes
  have hr := B.returns
  have hts := atoms_spec (ws := (ws_ yJ2_get cJ2_get 2 (some (.object "java/lang/Object")))) B.pre
  have hts : ∀ w ∈ lw_all, w.before _ s_ = true := fun w h => hts w (List.mem_cons_of_mem _ h)
  have hown : s_.vm.findClass RJ2 = some m_.cls := findClass_of_methodNamed B.named
  have hlocks := B.notSynchronized
  have hK := hC.1
  have hT := hC.2.1
  have hL := hC.2.2.1
  have hZ := hC.2.2.2.2.1
  have hA := hC.2.2.2.2.2
  have hS : va_S A s_.heap s_.heap [] := va_S.rf
  have hl := lv_entry ([.ref o_, .int a0]) (n := 2) (Nat.le_of_ble_eq_true rfl)
  rw [lg_entry_eq]
  generalize (lg_sl ([.ref o_, .int a0]) ++ List.replicate (2 - (lg_sl ([.ref o_, .int a0])).length) Slot.unset).toArray = ls at hl ⊢
  have hl : lv_has ls 2 [(0, .ref o_), (1, .int a0)] := hl
  unfold eJ2_get at hd
  refine lv_iload_n (pc := 0) hx hb dJ2_get_0 rfl (lv_at hl 1 rfl) ?_
  refine lv_aload_n (pc := 1) hx hb dJ2_get_1 rfl (lv_at hl 0 rfl) ?_
  obtain ⟨f1, h2, hd⟩ := wt_bd_o hd
  refine hr_get (pc := 2) hx hb hts hown hK hW (hgI_o h2) hf_13_2 (fun _ h => h) q502 dJ2_get_2 ?_
  obtain ⟨w3, hc4, hd⟩ := wt_bd_o hd
  refine kJ17_checkIndex (pc := 5) hx hb hml hown hts hC hW hS hc4 hl.1 (Nat.le_of_ble_eq_true rfl) ⟨Nat.le_of_ble_eq_true rfl, Nat.le_of_ble_eq_true rfl⟩ ⟨Nat.le_of_ble_eq_true rfl, Nat.le_of_ble_eq_true rfl⟩ q591 dJ2_get_5 (fun H locs hW hS => ?_)
  refine lv_pop (pc := 8) hx hb dJ2_get_8 rfl ?_
  refine lv_aload_n (pc := 9) hx hb dJ2_get_9 rfl (lv_at hl 0 rfl) ?_
  refine lv_iload_n (pc := 10) hx hb dJ2_get_10 rfl (lv_at hl 1 rfl) ?_
  obtain ⟨h5, hd⟩ := wt_ck_o hd
  obtain ⟨w6, hc7, hd⟩ := wt_bd_o hd
  refine kJ2_elementData (pc := 11) hx hb hml hown hts hC hW hS h5 hc7 hl.1 (Nat.le_of_ble_eq_true rfl) ⟨Nat.le_of_ble_eq_true rfl, Nat.le_of_ble_eq_true rfl⟩ ⟨Nat.le_of_ble_eq_true rfl, Nat.le_of_ble_eq_true rfl⟩ q597 dJ2_get_11 (fun H locs hW hS => ?_)
  exact hr_aret hx hb hr (Or.inl ⟨_, rfl⟩) hlocks (Option.some.inj hd) rfl hW hS dJ2_get_14 (Nat.le_of_ble_eq_true rfl) (Nat.le_of_ble_eq_true rfl)
theorem kJ2_get {p : Program} {l : Launch} {e : Env} {R : Room} {s : State} {m : MethodId} {args : Array Value} {below : List Frame} {meth : Method} {c : Code} {H : Heap} {locs : List Loc} {cells slots : Nat} {Q : State → Prop} {cc : ByteArray} {pc : Nat} {ls : Array Slot} {rest : List Value} {nL : Nat} {own : String} {index : Nat} {G : HG} {A : Nat → Prop} {τ : HP} {o_ : Nat} {a0 : Int32} {out_ : Nat} (hx : p.tables.exec = Jvm.exec) (hb : c.code = cc) (hml : c.maxLocals = nL) (hown : s.vm.findClass own = some m.cls) (hts : ∀ w ∈ lw_all, w.before args s = true) (hC : Hcx G A s) (hW : Hw G A τ H) (hS : va_S A s.heap H locs) (hrc : hcl τ o_ = some 13) (hd : eJ2_get τ o_ a0 = some out_) (hsz : ls.size = nL) (hrm : (rest.map fun v => v.category).sum ≤ 8) (hR : 3 ≤ R.frames ∧ 64 ≤ R.locals) (hcs : cells ≤ R.cells ∧ slots ≤ R.slots) (hlk : Cond.methodLink own index yJ2_get ∈ lw_all) (hdg : decode cc pc = .ok (.invokevirtual index, 3)) (kk : ∀ (H1 : Heap) (locs1 : List Loc), Hw G A τ H1 → va_S A s.heap H1 locs1 → W p l e R s m args below meth c H1 locs1 cells slots Q (F0 m (pc + 3) ls (.ref out_ :: rest))) : W p l e R s m args below meth c H locs cells slots Q (F0 m pc ls (.int a0 :: .ref o_ :: rest)) := by
  refine va_callr (va_runV (As := [.int a0]) (rest := rest) ⟨hx, hb, hml, hown, hts⟩ (wJ2_get l hd) (cwV 1 hts (lw_V hlk q588 q589 q71 q590) rfl rfl rfl (by decide +kernel) hR) (hr_preV hC hW hS hrc rfl rfl) rfl rfl hsz rfl (lv_room hrm) hdg hcs) hS (fun _ _ h => h) (fun _ h => h) (fun u ra t H1 locs1 ht hvm hp hB hz hk hS1 => ?_)
  have hp : ra = out_ := hB.1
  subst hp
  have hW1 : Hw G A τ t.heap := hB.2
  rw [ht] at hW1
  exact kk H1 locs1 hW1 hS1
noncomputable def eJ11_newLength (a0 : Int32) (a1 : Int32) (a2 : Int32) : Option (Int32) :=
  wt_lt ((a0 + (wt_max a1 a2))) fun n1 => wt_bd (if n1 ≤ (0 : Int32) then (some (.inl ())) else (if (2147483639 : Int32) < n1 then (some (.inl ())) else (some (.inr (n1))))) fun w2 => wt_rs w2 (fun w2 => none) (fun z_ => some z_)
set_option maxHeartbeats 4000000 in
theorem wJ11_newLength (l : Launch) {G : HG} {A : Nat → Prop} {τ : HP} {a0 : Int32} {a1 : Int32} {a2 : Int32} {out_ : Int32} (hd : eJ11_newLength a0 a1 a2 = some out_) : Met l yJ11_newLength (ws_ yJ11_newLength cJ11_newLength 4 (some .int)) ({ frames := 1, cells := 0, slots := 0, locals := 32 }) (hPc G A τ [.int a0, .int a1, .int a2]) (hQi G out_ τ A) 0 0 A := by
  refine Met.ofW (cc := cJ11_newLength) (maxL := 4) (ret := (some .int)) (by decide) rfl ?_
  intro p_ e_ s_ m_ args_ below_ meth_ c_ s₁_ B hml hv
  obtain ⟨rfl, hW, hC⟩ := hv
  have hx := B.exec
  have hb := B.bytes
  have hr := B.returns
  have hts := atoms_spec (ws := (ws_ yJ11_newLength cJ11_newLength 4 (some .int))) B.pre
  have hts : ∀ w ∈ lw_all, w.before _ s_ = true := fun w h => hts w (List.mem_cons_of_mem _ h)
  have hown : s_.vm.findClass RJ11 = some m_.cls := findClass_of_methodNamed B.named
  have hlocks := B.notSynchronized
  have hK := hC.1
  have hT := hC.2.1
  have hL := hC.2.2.1
  have hZ := hC.2.2.2.2.1
  have hA := hC.2.2.2.2.2
  have hS : va_S A s_.heap s_.heap [] := va_S.rf
  have hl := lv_entry ([.int a0, .int a1, .int a2]) (n := 4) (Nat.le_of_ble_eq_true rfl)
  rw [lg_entry_eq]
  generalize (lg_sl ([.int a0, .int a1, .int a2]) ++ List.replicate (4 - (lg_sl ([.int a0, .int a1, .int a2])).length) Slot.unset).toArray = ls at hl ⊢
  have hl : lv_has ls 4 [(0, .int a0), (1, .int a1), (2, .int a2)] := hl
  unfold eJ11_newLength at hd
  refine lv_iload_n (pc := 0) hx hb dJ11_newLength_0 rfl (lv_at hl 0 rfl) ?_
  refine lv_iload_n (pc := 1) hx hb dJ11_newLength_1 rfl (lv_at hl 1 rfl) ?_
  refine lv_iload_n (pc := 2) hx hb dJ11_newLength_2 rfl (lv_at hl 2 rfl) ?_
  refine va_mmax (pc := 3) hx hb (hml.trans hl.1.symm) hown (hts _ q283) (hts _ q284) (hts _ q81) (hts _ q285) (Nat.le_of_ble_eq_true rfl) (Nat.le_of_ble_eq_true rfl) (Nat.le_of_ble_eq_true rfl) (Nat.le_of_ble_eq_true rfl) dJ11_newLength_3 ?_
  refine lv_iadd (pc := 6) hx hb dJ11_newLength_6 ?_
  obtain ⟨n1, en1, hd⟩ := wt_lt_o hd
  refine lv_tope en1 ?_
  refine lv_istore_n (pc := 7) (lv' := [(3, .int n1), (0, .int a0), (1, .int a1), (2, .int a2)]) hx hb dJ11_newLength_7 rfl hl (by decide) rfl (fun ls hl => ?_)
  refine lv_iconst (pc := 8) (v := 0) hx hb dJ11_newLength_8 (by decide) ?_
  refine lv_iload_n (pc := 9) hx hb dJ11_newLength_9 rfl (lv_at hl 0 rfl) ?_
  obtain ⟨w2, hj3, hq4⟩ := wt_bd_o hd
  have hX5 : ∀ w2_ : Unit, (Sum.inl w2_ : (Unit) ⊕ _) = w2 → ∀ (H : Heap) (locs : List Loc) (ls : Array Slot), Hw G A τ H → va_S A s_.heap H locs → lv_has ls 4 [(0, .int a0), (1, .int a1)] → W p_ l e_ (headSpec (ws_ yJ11_newLength cJ11_newLength 4 (some .int)) ({ frames := 1, cells := 0, slots := 0, locals := 32 })).room s_ m_ ([.int a0, .int a1, .int a2] : List Value).toArray below_ meth_ c_ H locs 0 0 (MQ below_ (hQi G out_ τ A) ([.int a0, .int a1, .int a2] : List Value).toArray s_ 0 0 A) (F0 m_ 21 ls []) := by
    intro w2_ hw_
    have hd := wt_rs_l hw_ hq4
    clear hj3 hq4
    intro H locs ls hW hS hl
    exact absurd hd (by intro h; cases h)
  have hd := hj3
  refine lv_icmp_ge (pc := 10) (tgt := 21) hx hb dJ11_newLength_10 (by decide) (fun c6 => ?_) (fun c6 => ?_)
  · have hd := wt_it hd c6
    exact hX5 () (Option.some.inj hd) _ _ _ hW hS (lv_sub hl [1, 2] rfl)
  · have hd := wt_if hd c6
    refine lv_iload_n (pc := 13) hx hb dJ11_newLength_13 rfl (lv_at hl 0 rfl) ?_
    refine lv_ldc (pc := 14) hx hb hown (hts _ q286) dJ11_newLength_14 ?_
    refine lv_icmp_gt (pc := 16) (tgt := 21) hx hb dJ11_newLength_16 (by decide) (fun c7 => ?_) (fun c7 => ?_)
    · have hd := wt_it hd c7
      exact hX5 () (Option.some.inj hd) _ _ _ hW hS (lv_sub hl [1, 2] rfl)
    · have hd := wt_if hd c7
      refine lv_iload_n (pc := 19) hx hb dJ11_newLength_19 rfl (lv_at hl 0 rfl) ?_
      have hd := wt_rs_r (Option.some.inj hd) hq4
      exact hr_iret hx hb hr rfl hlocks (Option.some.inj hd) rfl hW hS dJ11_newLength_20 (Nat.le_of_ble_eq_true rfl) (Nat.le_of_ble_eq_true rfl)
theorem kJ11_newLength {p : Program} {l : Launch} {e : Env} {R : Room} {s : State} {m : MethodId} {args : Array Value} {below : List Frame} {meth : Method} {c : Code} {H : Heap} {locs : List Loc} {cells slots : Nat} {Q : State → Prop} {cc : ByteArray} {pc : Nat} {ls : Array Slot} {rest : List Value} {nL : Nat} {own : String} {index : Nat} {G : HG} {A : Nat → Prop} {τ : HP} {a0 : Int32} {a1 : Int32} {a2 : Int32} {out_ : Int32} (hx : p.tables.exec = Jvm.exec) (hb : c.code = cc) (hml : c.maxLocals = nL) (hown : s.vm.findClass own = some m.cls) (hts : ∀ w ∈ lw_all, w.before args s = true) (hC : Hcx G A s) (hW : Hw G A τ H) (hS : va_S A s.heap H locs) (hd : eJ11_newLength a0 a1 a2 = some out_) (hsz : ls.size = nL) (hrm : (rest.map fun v => v.category).sum ≤ 8) (hR : 2 ≤ R.frames ∧ 55 ≤ R.locals) (hcs : cells ≤ R.cells ∧ slots ≤ R.slots) (hlk : Cond.methodLink own index yJ11_newLength ∈ lw_all) (hdg : decode cc pc = .ok (.invokestatic index, 3)) (kk : ∀ (H1 : Heap) (locs1 : List Loc), Hw G A τ H1 → va_S A s.heap H1 locs1 → W p l e R s m args below meth c H1 locs1 cells slots Q (F0 m (pc + 3) ls (.int out_ :: rest))) : W p l e R s m args below meth c H locs cells slots Q (F0 m pc ls (.int a2 :: .int a1 :: .int a0 :: rest)) := by
  refine va_calli (va_runS (As := [.int a0, .int a1, .int a2]) (rest := rest) ⟨hx, hb, hml, hown, hts⟩ (wJ11_newLength l hd) (va_cwS 3 hts (lw_S hlk q281 q80 q282) rfl rfl rfl (by decide +kernel) hR) (hr_preS hC hW hS) rfl rfl hsz rfl (lv_room hrm) hdg hcs) hS (fun _ _ h => h) (fun _ h => h) (fun r u t H1 locs1 ht hvm hp hB hz hk hS1 => ?_)
  have hp : r = out_ := hp
  subst hp
  have hW1 : Hw G A τ t.heap := hB
  rw [ht] at hW1
  exact kk H1 locs1 hW1 hS1
noncomputable def eJ13_copyOf_3 (τ : HP) (a0 : Nat) (a1 : Int32) : Option (Nat × HP) :=
  wt_ck (¬ a1 < 0 ∧ a1.toNatClampNeg ≤ 32) <| wt_lt (hnew τ (.inl (2, a1.toNatClampNeg, .inr (.inr (.inr (.inr (fun _ => none))))))) fun τ2 => wt_bd (hln τ2 a0 2) fun m3 => wt_bd (haR τ2 a0 2) fun z5 => wt_bd (haR τ2 τ.2 2) fun z7 => wt_ck (¬ (0 : Int32) < 0 ∧ ¬ (0 : Int32) < 0 ∧ ¬ (wt_min (Int32.ofNat m3) a1) < 0 ∧ (0 : Int32).toNatClampNeg + (wt_min (Int32.ofNat m3) a1).toNatClampNeg ≤ z5.1 ∧ (0 : Int32).toNatClampNeg + (wt_min (Int32.ofNat m3) a1).toNatClampNeg ≤ z7.1) <| wt_ck (∀ i, i < (wt_min (Int32.ofNat m3) a1).toNatClampNeg → ∀ y, z5.2 ((0 : Int32).toNatClampNeg + i) = some y → ∃ c, hcl τ2 y = some c ∧ hob c = true) <| wt_lt (hst τ2 τ.2 (.inl (2, z7.1, .inr (.inr (.inr (.inr (va_cpy z5.2 z7.2 (0 : Int32).toNatClampNeg (0 : Int32).toNatClampNeg (wt_min (Int32.ofNat m3) a1).toNatClampNeg))))))) fun τ11 => some (τ.2, τ11)
set_option maxHeartbeats 4000000 in
theorem wJ13_copyOf_3 (l : Launch) {G : HG} {A : Nat → Prop} {τ : HP} {a0 : Nat} {a1 : Int32} {out_ : Nat × HP} (hd : eJ13_copyOf_3 τ a0 a1 = some out_) : Met l yJ13_copyOf_3 (ws_ yJ13_copyOf_3 cJ13_copyOf_3 4 (some (.array (.object "java/lang/Object")))) ({ frames := 1, cells := 1, slots := 32, locals := 32 }) (hPc G A τ [.ref a0, .int a1, .ref (G.2.2 0)]) (hQr G out_.1 out_.2 A) 1 32 A := by
  refine Met.ofW (cc := cJ13_copyOf_3) (maxL := 4) (ret := (some (.array (.object "java/lang/Object")))) (by decide) rfl ?_
  intro p_ e_ s_ m_ args_ below_ meth_ c_ s₁_ B hml hv
  obtain ⟨rfl, hW, hC⟩ := hv
  have hx := B.exec
  have hb := B.bytes
  have hr := B.returns
  have hts := atoms_spec (ws := (ws_ yJ13_copyOf_3 cJ13_copyOf_3 4 (some (.array (.object "java/lang/Object"))))) B.pre
  have hts : ∀ w ∈ lw_all, w.before _ s_ = true := fun w h => hts w (List.mem_cons_of_mem _ h)
  have hown : s_.vm.findClass RJ13 = some m_.cls := findClass_of_methodNamed B.named
  have hlocks := B.notSynchronized
  have hK := hC.1
  have hT := hC.2.1
  have hL := hC.2.2.1
  have hZ := hC.2.2.2.2.1
  have hA := hC.2.2.2.2.2
  have hS : va_S A s_.heap s_.heap [] := va_S.rf
  have hl := lv_entry ([.ref a0, .int a1, .ref (G.2.2 0)]) (n := 4) (Nat.le_of_ble_eq_true rfl)
  rw [lg_entry_eq]
  generalize (lg_sl ([.ref a0, .int a1, .ref (G.2.2 0)]) ++ List.replicate (4 - (lg_sl ([.ref a0, .int a1, .ref (G.2.2 0)])).length) Slot.unset).toArray = ls at hl ⊢
  have hl : lv_has ls 4 [(0, .ref a0), (1, .int a1), (2, .ref (G.2.2 0))] := hl
  unfold eJ13_copyOf_3 at hd
  refine lv_aload_n (pc := 0) hx hb dJ13_copyOf_3_0 rfl (lv_at hl 2 rfl) ?_
  refine va_ldcM (pc := 1) hx hb hown (hts _ q653) hC.2.2.2.1.1 dJ13_copyOf_3_1 ?_
  refine lv_acmp_ne (pc := 3) (tgt := 13) (rx := some (G.2.2 0)) (ry := some (G.2.2 0)) hx hb dJ13_copyOf_3_3 (by decide) (fun c => ?_) (fun c => ?_)
  · exact absurd rfl c
  · refine lv_iload_n (pc := 6) hx hb dJ13_copyOf_3_6 rfl (lv_at hl 1 rfl) ?_
    obtain ⟨h1, hd⟩ := wt_ck_o hd
    obtain ⟨τ2, eτ2, hd⟩ := wt_lt_o hd
    refine hr_newR (pc := 7) (t := 2) (N := a1.toNatClampNeg) hx hb hts hown hK hT.2.1 hW hS hA rfl q654 h1.1 rfl (Nat.le_trans h1.2 (by decide)) eτ2 (Nat.le_of_ble_eq_true rfl) (Nat.le_trans (Nat.add_le_add_left h1.2 _) (Nat.le_of_ble_eq_true rfl)) dJ13_copyOf_3_7 (fun H hW hS => ?_)
    refine W.widen (k := 1) (n := 32) (Nat.le_refl _) (Nat.add_le_add_left h1.2 _) ?_
    refine lv_goto (pc := 10) (tgt := 24) hx hb dJ13_copyOf_3_10 (by decide) ?_
    refine lv_astore_n (pc := 24) (lv' := [(3, .ref (τ.2)), (0, .ref a0), (1, .int a1), (2, .ref (G.2.2 0))]) hx hb dJ13_copyOf_3_24 rfl hl (by decide) rfl (fun ls hl => ?_)
    refine lv_aload_n (pc := 25) hx hb dJ13_copyOf_3_25 rfl (lv_at hl 1 rfl) ?_
    refine lv_iconst (pc := 26) (v := 0) hx hb dJ13_copyOf_3_26 (by decide) ?_
    refine lv_aload_n (pc := 27) hx hb dJ13_copyOf_3_27 rfl (lv_at hl 0 rfl) ?_
    refine lv_iconst (pc := 28) (v := 0) hx hb dJ13_copyOf_3_28 (by decide) ?_
    refine lv_aload_n (pc := 29) hx hb dJ13_copyOf_3_29 rfl (lv_at hl 1 rfl) ?_
    obtain ⟨m3, h4, hd⟩ := wt_bd_o hd
    refine hr_alen (pc := 30) (t := 2) hx hb hK hW h4 rfl rfl dJ13_copyOf_3_30 ?_
    refine lv_iload_n (pc := 31) hx hb dJ13_copyOf_3_31 rfl (lv_at hl 2 rfl) ?_
    refine va_mmin (pc := 32) hx hb (hml.trans hl.1.symm) hown (hts _ q301) (hts _ q302) (hts _ q81) (hts _ q303) (Nat.le_of_ble_eq_true rfl) (Nat.le_of_ble_eq_true rfl) (Nat.le_of_ble_eq_true rfl) (Nat.le_of_ble_eq_true rfl) dJ13_copyOf_3_32 ?_
    obtain ⟨z5, h6, hd⟩ := wt_bd_o hd
    obtain ⟨z7, h8, hd⟩ := wt_bd_o hd
    obtain ⟨h9, hd⟩ := wt_ck_o hd
    obtain ⟨h10, hd⟩ := wt_ck_o hd
    obtain ⟨τ11, eτ11, hd⟩ := wt_lt_o hd
    refine hr_copyR (pc := 35) (t := 2) hx hb (hml.trans hl.1.symm) hts hown hC hW hS h6 h8 rfl (by decide) h9 h10 eτ11 (hts _ q304) (Nat.le_of_ble_eq_true rfl) (Nat.le_of_ble_eq_true rfl) dJ13_copyOf_3_35 (fun H locs hW hS => ?_)
    refine lv_aload_n (pc := 38) hx hb dJ13_copyOf_3_38 rfl (lv_at hl 0 rfl) ?_
    exact hr_aret hx hb hr (Or.inr ⟨_, rfl⟩) hlocks (wt_p1 hd) (wt_p2 hd) hW hS dJ13_copyOf_3_39 (Nat.le_of_ble_eq_true rfl) (Nat.le_of_ble_eq_true rfl)
theorem kJ13_copyOf_3 {p : Program} {l : Launch} {e : Env} {R : Room} {s : State} {m : MethodId} {args : Array Value} {below : List Frame} {meth : Method} {c : Code} {H : Heap} {locs : List Loc} {cells slots : Nat} {Q : State → Prop} {cc : ByteArray} {pc : Nat} {ls : Array Slot} {rest : List Value} {nL : Nat} {own : String} {index : Nat} {G : HG} {A : Nat → Prop} {τ : HP} {a0 : Nat} {a1 : Int32} {out_ : Nat × HP} (hx : p.tables.exec = Jvm.exec) (hb : c.code = cc) (hml : c.maxLocals = nL) (hown : s.vm.findClass own = some m.cls) (hts : ∀ w ∈ lw_all, w.before args s = true) (hC : Hcx G A s) (hW : Hw G A τ H) (hS : va_S A s.heap H locs) (hd : eJ13_copyOf_3 τ a0 a1 = some out_) (hsz : ls.size = nL) (hrm : (rest.map fun v => v.category).sum ≤ 8) (hR : 2 ≤ R.frames ∧ 55 ≤ R.locals) (hcs : (cells + 1) ≤ R.cells ∧ (slots + 32) ≤ R.slots) (hlk : Cond.methodLink own index yJ13_copyOf_3 ∈ lw_all) (hdg : decode cc pc = .ok (.invokestatic index, 3)) (kk : ∀ (H1 : Heap) (locs1 : List Loc), Hw G A out_.2 H1 → va_S A s.heap H1 locs1 → W p l e R s m args below meth c H1 locs1 (cells + 1) (slots + 32) Q (F0 m (pc + 3) ls (.ref out_.1 :: rest))) : W p l e R s m args below meth c H locs cells slots Q (F0 m pc ls (.ref (G.2.2 0) :: .int a1 :: .ref a0 :: rest)) := by
  refine va_callr (va_runS (As := [.ref a0, .int a1, .ref (G.2.2 0)]) (rest := rest) ⟨hx, hb, hml, hown, hts⟩ (wJ13_copyOf_3 l hd) (va_cwS 3 hts (lw_S hlk q651 q82 q652) rfl rfl rfl (by decide +kernel) hR) (hr_preS hC hW hS) rfl rfl hsz rfl (lv_room hrm) hdg hcs) hS (fun _ _ h => h) (fun _ h => h) (fun u ra t H1 locs1 ht hvm hp hB hz hk hS1 => ?_)
  have hp : ra = out_.1 := hB.1
  subst hp
  have hW1 : Hw G A out_.2 t.heap := hB.2
  rw [ht] at hW1
  exact kk H1 locs1 hW1 hS1
noncomputable def eJ13_copyOf_2 (τ : HP) (a0 : Nat) (a1 : Int32) : Option (Nat × HP) :=
  wt_bd (hln τ a0 2) fun m1 => wt_bd (eJ13_copyOf_3 τ a0 a1) fun w3 => some (w3.1, w3.2)
set_option maxHeartbeats 4000000 in
theorem wJ13_copyOf_2 (l : Launch) {G : HG} {A : Nat → Prop} {τ : HP} {a0 : Nat} {a1 : Int32} {out_ : Nat × HP} (hd : eJ13_copyOf_2 τ a0 a1 = some out_) : Met l yJ13_copyOf_2 (ws_ yJ13_copyOf_2 cJ13_copyOf_2 2 (some (.array (.object "java/lang/Object")))) ({ frames := 2, cells := 1, slots := 32, locals := 55 }) (hPc G A τ [.ref a0, .int a1]) (hQr G out_.1 out_.2 A) 1 32 A := by
  refine Met.ofW (cc := cJ13_copyOf_2) (maxL := 2) (ret := (some (.array (.object "java/lang/Object")))) (by decide) rfl ?_
  intro p_ e_ s_ m_ args_ below_ meth_ c_ s₁_ B hml hv
  obtain ⟨rfl, hW, hC⟩ := hv
  have hx := B.exec
  have hb := B.bytes
  have hr := B.returns
  have hts := atoms_spec (ws := (ws_ yJ13_copyOf_2 cJ13_copyOf_2 2 (some (.array (.object "java/lang/Object"))))) B.pre
  have hts : ∀ w ∈ lw_all, w.before _ s_ = true := fun w h => hts w (List.mem_cons_of_mem _ h)
  have hown : s_.vm.findClass RJ13 = some m_.cls := findClass_of_methodNamed B.named
  have hlocks := B.notSynchronized
  have hK := hC.1
  have hT := hC.2.1
  have hL := hC.2.2.1
  have hZ := hC.2.2.2.2.1
  have hA := hC.2.2.2.2.2
  have hS : va_S A s_.heap s_.heap [] := va_S.rf
  have hl := lv_entry ([.ref a0, .int a1]) (n := 2) (Nat.le_of_ble_eq_true rfl)
  rw [lg_entry_eq]
  generalize (lg_sl ([.ref a0, .int a1]) ++ List.replicate (2 - (lg_sl ([.ref a0, .int a1])).length) Slot.unset).toArray = ls at hl ⊢
  have hl : lv_has ls 2 [(0, .ref a0), (1, .int a1)] := hl
  unfold eJ13_copyOf_2 at hd
  refine lv_aload_n (pc := 0) hx hb dJ13_copyOf_2_0 rfl (lv_at hl 0 rfl) ?_
  refine lv_iload_n (pc := 1) hx hb dJ13_copyOf_2_1 rfl (lv_at hl 1 rfl) ?_
  refine lv_aload_n (pc := 2) hx hb dJ13_copyOf_2_2 rfl (lv_at hl 0 rfl) ?_
  obtain ⟨m1, h2, hd⟩ := wt_bd_o hd
  refine hr_getC (pc := 3) hx hb hml hts hown hC hW h2 hl.1 q624 dJ13_copyOf_2_3 (Nat.le_of_ble_eq_true rfl) (Nat.le_of_ble_eq_true rfl) ?_
  obtain ⟨w3, hc4, hd⟩ := wt_bd_o hd
  refine kJ13_copyOf_3 (pc := 6) hx hb hml hown hts hC hW hS hc4 hl.1 (Nat.le_of_ble_eq_true rfl) ⟨Nat.le_of_ble_eq_true rfl, Nat.le_of_ble_eq_true rfl⟩ ⟨(Nat.le_of_ble_eq_true rfl), (Nat.le_of_ble_eq_true rfl)⟩ q650 dJ13_copyOf_2_6 (fun H locs hW hS => ?_)
  exact hr_aret hx hb hr (Or.inr ⟨_, rfl⟩) hlocks (wt_p1 hd) (wt_p2 hd) hW hS dJ13_copyOf_2_9 (Nat.le_of_ble_eq_true rfl) (Nat.le_of_ble_eq_true rfl)
theorem kJ13_copyOf_2 {p : Program} {l : Launch} {e : Env} {R : Room} {s : State} {m : MethodId} {args : Array Value} {below : List Frame} {meth : Method} {c : Code} {H : Heap} {locs : List Loc} {cells slots : Nat} {Q : State → Prop} {cc : ByteArray} {pc : Nat} {ls : Array Slot} {rest : List Value} {nL : Nat} {own : String} {index : Nat} {G : HG} {A : Nat → Prop} {τ : HP} {a0 : Nat} {a1 : Int32} {out_ : Nat × HP} (hx : p.tables.exec = Jvm.exec) (hb : c.code = cc) (hml : c.maxLocals = nL) (hown : s.vm.findClass own = some m.cls) (hts : ∀ w ∈ lw_all, w.before args s = true) (hC : Hcx G A s) (hW : Hw G A τ H) (hS : va_S A s.heap H locs) (hd : eJ13_copyOf_2 τ a0 a1 = some out_) (hsz : ls.size = nL) (hrm : (rest.map fun v => v.category).sum ≤ 8) (hR : 3 ≤ R.frames ∧ 76 ≤ R.locals) (hcs : (cells + 1) ≤ R.cells ∧ (slots + 32) ≤ R.slots) (hlk : Cond.methodLink own index yJ13_copyOf_2 ∈ lw_all) (hdg : decode cc pc = .ok (.invokestatic index, 3)) (kk : ∀ (H1 : Heap) (locs1 : List Loc), Hw G A out_.2 H1 → va_S A s.heap H1 locs1 → W p l e R s m args below meth c H1 locs1 (cells + 1) (slots + 32) Q (F0 m (pc + 3) ls (.ref out_.1 :: rest))) : W p l e R s m args below meth c H locs cells slots Q (F0 m pc ls (.int a1 :: .ref a0 :: rest)) := by
  refine va_callr (va_runS (As := [.ref a0, .int a1]) (rest := rest) ⟨hx, hb, hml, hown, hts⟩ (wJ13_copyOf_2 l hd) (va_cwS 2 hts (lw_S hlk q622 q82 q623) rfl rfl rfl (by decide +kernel) hR) (hr_preS hC hW hS) rfl rfl hsz rfl (lv_room hrm) hdg hcs) hS (fun _ _ h => h) (fun _ h => h) (fun u ra t H1 locs1 ht hvm hp hB hz hk hS1 => ?_)
  have hp : ra = out_.1 := hB.1
  subst hp
  have hW1 : Hw G A out_.2 t.heap := hB.2
  rw [ht] at hW1
  exact kk H1 locs1 hW1 hS1
noncomputable def eJ2_grow_2 (τ : HP) (o_ : Nat) (a0 : Int32) : Option (Nat × HP) :=
  wt_bd (hgA τ o_ [13] 1) fun ad1 => wt_bd (hln τ ad1 2) fun m3 => wt_lt ((Int32.ofNat m3)) fun n5 => if 0 < n5 then (wt_bd (eJ11_newLength n5 (a0 - n5) (n5 >>> ((1 : Int32) &&& 31))) fun w7 => wt_bd (hgA τ o_ [13] 1) fun ad9 => wt_bd (eJ13_copyOf_2 τ ad9 w7) fun w11 => wt_bd (hp w11.2 o_ [13] 1 (.ref w11.1)) fun τ13 => some (w11.1, τ13)) else (wt_bd (hgA τ o_ [13] 1) fun ad15 => none)
set_option maxHeartbeats 4000000 in
theorem wJ2_grow_2 (l : Launch) {G : HG} {A : Nat → Prop} {τ : HP} {o_ : Nat} {a0 : Int32} {out_ : Nat × HP} (hd : eJ2_grow_2 τ o_ a0 = some out_) : Met l yJ2_grow_2 (ws_ yJ2_grow_2 cJ2_grow_2 4 (some (.array (.object "java/lang/Object")))) ({ frames := 3, cells := 1, slots := 32, locals := 76 }) (hPc G A τ [.ref o_, .int a0]) (hQr G out_.1 out_.2 A) 1 32 A := by
  refine Met.ofW (cc := cJ2_grow_2) (maxL := 4) (ret := (some (.array (.object "java/lang/Object")))) (by decide) rfl ?_
  intro p_ e_ s_ m_ args_ below_ meth_ c_ s₁_ B hml hv
  obtain ⟨rfl, hW, hC⟩ := hv
  have hx := B.exec
  have hb := B.bytes
  have hr := B.returns
  have hts := atoms_spec (ws := (ws_ yJ2_grow_2 cJ2_grow_2 4 (some (.array (.object "java/lang/Object"))))) B.pre
  have hts : ∀ w ∈ lw_all, w.before _ s_ = true := fun w h => hts w (List.mem_cons_of_mem _ h)
  have hown : s_.vm.findClass RJ2 = some m_.cls := findClass_of_methodNamed B.named
  have hlocks := B.notSynchronized
  have hK := hC.1
  have hT := hC.2.1
  have hL := hC.2.2.1
  have hZ := hC.2.2.2.2.1
  have hA := hC.2.2.2.2.2
  have hS : va_S A s_.heap s_.heap [] := va_S.rf
  have hl := lv_entry ([.ref o_, .int a0]) (n := 4) (Nat.le_of_ble_eq_true rfl)
  rw [lg_entry_eq]
  generalize (lg_sl ([.ref o_, .int a0]) ++ List.replicate (4 - (lg_sl ([.ref o_, .int a0])).length) Slot.unset).toArray = ls at hl ⊢
  have hl : lv_has ls 4 [(0, .ref o_), (1, .int a0)] := hl
  unfold eJ2_grow_2 at hd
  refine lv_aload_n (pc := 0) hx hb dJ2_grow_2_0 rfl (lv_at hl 0 rfl) ?_
  obtain ⟨ad1, h2, hd⟩ := wt_bd_o hd
  refine hr_get (pc := 1) hx hb hts hown hK hW (hgA_o h2) hf_13_1 (fun _ h => h) q501 dJ2_grow_2_1 ?_
  obtain ⟨m3, h4, hd⟩ := wt_bd_o hd
  refine hr_alen (pc := 4) (t := 2) hx hb hK hW h4 rfl rfl dJ2_grow_2_4 ?_
  obtain ⟨n5, en5, hd⟩ := wt_lt_o hd
  refine lv_tope en5 ?_
  refine lv_istore_n (pc := 5) (lv' := [(2, .int n5), (0, .ref o_), (1, .int a0)]) hx hb dJ2_grow_2_5 rfl hl (by decide) rfl (fun ls hl => ?_)
  refine lv_iload_n (pc := 6) hx hb dJ2_grow_2_6 rfl (lv_at hl 0 rfl) ?_
  refine lv_if_gt (pc := 7) (tgt := 20) hx hb dJ2_grow_2_7 (by decide) (fun c6 => ?_) (fun c6 => ?_)
  · have hd := wt_it hd c6
    refine lv_iload_n (pc := 20) hx hb dJ2_grow_2_20 rfl (lv_at hl 0 rfl) ?_
    refine lv_iload_n (pc := 21) hx hb dJ2_grow_2_21 rfl (lv_at hl 2 rfl) ?_
    refine lv_iload_n (pc := 22) hx hb dJ2_grow_2_22 rfl (lv_at hl 0 rfl) ?_
    refine lv_isub (pc := 23) hx hb dJ2_grow_2_23 ?_
    refine lv_iload_n (pc := 24) hx hb dJ2_grow_2_24 rfl (lv_at hl 0 rfl) ?_
    refine lv_iconst (pc := 25) (v := 1) hx hb dJ2_grow_2_25 (by decide) ?_
    refine lv_ishr (pc := 26) hx hb dJ2_grow_2_26 ?_
    obtain ⟨w7, hc8, hd⟩ := wt_bd_o hd
    refine kJ11_newLength (pc := 27) hx hb hml hown hts hC hW hS hc8 hl.1 (Nat.le_of_ble_eq_true rfl) ⟨Nat.le_of_ble_eq_true rfl, Nat.le_of_ble_eq_true rfl⟩ ⟨Nat.le_of_ble_eq_true rfl, Nat.le_of_ble_eq_true rfl⟩ q620 dJ2_grow_2_27 (fun H locs hW hS => ?_)
    refine lv_istore_n (pc := 30) (lv' := [(3, .int w7), (2, .int n5), (0, .ref o_), (1, .int a0)]) hx hb dJ2_grow_2_30 rfl hl (by decide) rfl (fun ls hl => ?_)
    refine lv_aload_n (pc := 31) hx hb dJ2_grow_2_31 rfl (lv_at hl 2 rfl) ?_
    refine lv_aload_n (pc := 32) hx hb dJ2_grow_2_32 rfl (lv_at hl 2 rfl) ?_
    obtain ⟨ad9, h10, hd⟩ := wt_bd_o hd
    refine hr_get (pc := 33) hx hb hts hown hK hW (hgA_o h10) hf_13_1 (fun _ h => h) q501 dJ2_grow_2_33 ?_
    refine lv_iload_n (pc := 36) hx hb dJ2_grow_2_36 rfl (lv_at hl 0 rfl) ?_
    obtain ⟨w11, hc12, hd⟩ := wt_bd_o hd
    refine kJ13_copyOf_2 (pc := 37) hx hb hml hown hts hC hW hS hc12 hl.1 (Nat.le_of_ble_eq_true rfl) ⟨Nat.le_of_ble_eq_true rfl, Nat.le_of_ble_eq_true rfl⟩ ⟨(Nat.le_of_ble_eq_true rfl), (Nat.le_of_ble_eq_true rfl)⟩ q621 dJ2_grow_2_37 (fun H locs hW hS => ?_)
    refine lv_dup_x1 (pc := 40) hx hb dJ2_grow_2_40 rfl rfl ?_
    obtain ⟨τ13, h14, hd⟩ := wt_bd_o hd
    refine hr_put (pc := 41) (ty := (.array (.object "java/lang/Object"))) hx hb hts hown hK hW hS h14 hf_13_1 (by decide +kernel) rfl rfl (fun _ h => h) q501 dJ2_grow_2_41 (fun H locs hW hS => ?_)
    exact hr_aret hx hb hr (Or.inr ⟨_, rfl⟩) hlocks (wt_p1 hd) (wt_p2 hd) hW hS dJ2_grow_2_44 (Nat.le_of_ble_eq_true rfl) (Nat.le_of_ble_eq_true rfl)
  · have hd := wt_if hd c6
    refine lv_aload_n (pc := 10) hx hb dJ2_grow_2_10 rfl (lv_at hl 1 rfl) ?_
    obtain ⟨ad15, h16, hd⟩ := wt_bd_o hd
    refine hr_get (pc := 11) hx hb hts hown hK hW (hgA_o h16) hf_13_1 (fun _ h => h) q501 dJ2_grow_2_11 ?_
    exact absurd hd (by intro h; cases h)
theorem kJ2_grow_2 {p : Program} {l : Launch} {e : Env} {R : Room} {s : State} {m : MethodId} {args : Array Value} {below : List Frame} {meth : Method} {c : Code} {H : Heap} {locs : List Loc} {cells slots : Nat} {Q : State → Prop} {cc : ByteArray} {pc : Nat} {ls : Array Slot} {rest : List Value} {nL : Nat} {own : String} {index : Nat} {G : HG} {A : Nat → Prop} {τ : HP} {o_ : Nat} {a0 : Int32} {out_ : Nat × HP} (hx : p.tables.exec = Jvm.exec) (hb : c.code = cc) (hml : c.maxLocals = nL) (hown : s.vm.findClass own = some m.cls) (hts : ∀ w ∈ lw_all, w.before args s = true) (hC : Hcx G A s) (hW : Hw G A τ H) (hS : va_S A s.heap H locs) (hrc : hcl τ o_ = some 13) (hd : eJ2_grow_2 τ o_ a0 = some out_) (hsz : ls.size = nL) (hrm : (rest.map fun v => v.category).sum ≤ 8) (hR : 4 ≤ R.frames ∧ 99 ≤ R.locals) (hcs : (cells + 1) ≤ R.cells ∧ (slots + 32) ≤ R.slots) (hlk : Cond.methodLink own index yJ2_grow_2 ∈ lw_all) (hdg : decode cc pc = .ok (.invokevirtual index, 3)) (kk : ∀ (H1 : Heap) (locs1 : List Loc), Hw G A out_.2 H1 → va_S A s.heap H1 locs1 → W p l e R s m args below meth c H1 locs1 (cells + 1) (slots + 32) Q (F0 m (pc + 3) ls (.ref out_.1 :: rest))) : W p l e R s m args below meth c H locs cells slots Q (F0 m pc ls (.int a0 :: .ref o_ :: rest)) := by
  refine va_callr (va_runV (As := [.int a0]) (rest := rest) ⟨hx, hb, hml, hown, hts⟩ (wJ2_grow_2 l hd) (cwV 1 hts (lw_V hlk q616 qs4 q71 q617) rfl rfl rfl (by decide +kernel) hR) (hr_preV hC hW hS hrc rfl rfl) rfl rfl hsz rfl (lv_room hrm) hdg hcs) hS (fun _ _ h => h) (fun _ h => h) (fun u ra t H1 locs1 ht hvm hp hB hz hk hS1 => ?_)
  have hp : ra = out_.1 := hB.1
  subst hp
  have hW1 : Hw G A out_.2 t.heap := hB.2
  rw [ht] at hW1
  exact kk H1 locs1 hW1 hS1
noncomputable def eJ2_grow (τ : HP) (o_ : Nat) : Option (Nat × HP) :=
  wt_bd (hgI τ o_ [13] 2) fun f1 => wt_ck (hcl τ o_ = some 13) <| wt_bd (eJ2_grow_2 τ o_ (f1 + (1 : Int32))) fun w4 => some (w4.1, w4.2)
set_option maxHeartbeats 4000000 in
theorem wJ2_grow (l : Launch) {G : HG} {A : Nat → Prop} {τ : HP} {o_ : Nat} {out_ : Nat × HP} (hd : eJ2_grow τ o_ = some out_) : Met l yJ2_grow (ws_ yJ2_grow cJ2_grow 1 (some (.array (.object "java/lang/Object")))) ({ frames := 4, cells := 1, slots := 32, locals := 99 }) (hPc G A τ [.ref o_]) (hQr G out_.1 out_.2 A) 1 32 A := by
  refine Met.ofW (cc := cJ2_grow) (maxL := 1) (ret := (some (.array (.object "java/lang/Object")))) (by decide) rfl ?_
  intro p_ e_ s_ m_ args_ below_ meth_ c_ s₁_ B hml hv
  obtain ⟨rfl, hW, hC⟩ := hv
  have hx := B.exec
  have hb := B.bytes
  have hr := B.returns
  have hts := atoms_spec (ws := (ws_ yJ2_grow cJ2_grow 1 (some (.array (.object "java/lang/Object"))))) B.pre
  have hts : ∀ w ∈ lw_all, w.before _ s_ = true := fun w h => hts w (List.mem_cons_of_mem _ h)
  have hown : s_.vm.findClass RJ2 = some m_.cls := findClass_of_methodNamed B.named
  have hlocks := B.notSynchronized
  have hK := hC.1
  have hT := hC.2.1
  have hL := hC.2.2.1
  have hZ := hC.2.2.2.2.1
  have hA := hC.2.2.2.2.2
  have hS : va_S A s_.heap s_.heap [] := va_S.rf
  have hl := lv_entry ([.ref o_]) (n := 1) (Nat.le_of_ble_eq_true rfl)
  rw [lg_entry_eq]
  generalize (lg_sl ([.ref o_]) ++ List.replicate (1 - (lg_sl ([.ref o_])).length) Slot.unset).toArray = ls at hl ⊢
  have hl : lv_has ls 1 [(0, .ref o_)] := hl
  unfold eJ2_grow at hd
  refine lv_aload_n (pc := 0) hx hb dJ2_grow_0 rfl (lv_at hl 0 rfl) ?_
  refine lv_aload_n (pc := 1) hx hb dJ2_grow_1 rfl (lv_at hl 0 rfl) ?_
  obtain ⟨f1, h2, hd⟩ := wt_bd_o hd
  refine hr_get (pc := 2) hx hb hts hown hK hW (hgI_o h2) hf_13_2 (fun _ h => h) q502 dJ2_grow_2 ?_
  refine lv_iconst (pc := 5) (v := 1) hx hb dJ2_grow_5 (by decide) ?_
  refine lv_iadd (pc := 6) hx hb dJ2_grow_6 ?_
  obtain ⟨h3, hd⟩ := wt_ck_o hd
  obtain ⟨w4, hc5, hd⟩ := wt_bd_o hd
  refine kJ2_grow_2 (pc := 7) hx hb hml hown hts hC hW hS h3 hc5 hl.1 (Nat.le_of_ble_eq_true rfl) ⟨Nat.le_of_ble_eq_true rfl, Nat.le_of_ble_eq_true rfl⟩ ⟨(Nat.le_of_ble_eq_true rfl), (Nat.le_of_ble_eq_true rfl)⟩ q614 dJ2_grow_7 (fun H locs hW hS => ?_)
  exact hr_aret hx hb hr (Or.inr ⟨_, rfl⟩) hlocks (wt_p1 hd) (wt_p2 hd) hW hS dJ2_grow_10 (Nat.le_of_ble_eq_true rfl) (Nat.le_of_ble_eq_true rfl)
theorem kJ2_grow {p : Program} {l : Launch} {e : Env} {R : Room} {s : State} {m : MethodId} {args : Array Value} {below : List Frame} {meth : Method} {c : Code} {H : Heap} {locs : List Loc} {cells slots : Nat} {Q : State → Prop} {cc : ByteArray} {pc : Nat} {ls : Array Slot} {rest : List Value} {nL : Nat} {own : String} {index : Nat} {G : HG} {A : Nat → Prop} {τ : HP} {o_ : Nat} {out_ : Nat × HP} (hx : p.tables.exec = Jvm.exec) (hb : c.code = cc) (hml : c.maxLocals = nL) (hown : s.vm.findClass own = some m.cls) (hts : ∀ w ∈ lw_all, w.before args s = true) (hC : Hcx G A s) (hW : Hw G A τ H) (hS : va_S A s.heap H locs) (hrc : hcl τ o_ = some 13) (hd : eJ2_grow τ o_ = some out_) (hsz : ls.size = nL) (hrm : (rest.map fun v => v.category).sum ≤ 8) (hR : 5 ≤ R.frames ∧ 119 ≤ R.locals) (hcs : (cells + 1) ≤ R.cells ∧ (slots + 32) ≤ R.slots) (hlk : Cond.methodLink own index yJ2_grow ∈ lw_all) (hdg : decode cc pc = .ok (.invokevirtual index, 3)) (kk : ∀ (H1 : Heap) (locs1 : List Loc), Hw G A out_.2 H1 → va_S A s.heap H1 locs1 → W p l e R s m args below meth c H1 locs1 (cells + 1) (slots + 32) Q (F0 m (pc + 3) ls (.ref out_.1 :: rest))) : W p l e R s m args below meth c H locs cells slots Q (F0 m pc ls (.ref o_ :: rest)) := by
  refine va_callr (va_runV (As := []) (rest := rest) ⟨hx, hb, hml, hown, hts⟩ (wJ2_grow l hd) (cwV 0 hts (lw_V hlk q612 qs3 q71 q613) rfl rfl rfl (by decide +kernel) hR) (hr_preV hC hW hS hrc rfl rfl) rfl rfl hsz rfl (lv_room hrm) hdg hcs) hS (fun _ _ h => h) (fun _ h => h) (fun u ra t H1 locs1 ht hvm hp hB hz hk hS1 => ?_)
  have hp : ra = out_.1 := hB.1
  subst hp
  have hW1 : Hw G A out_.2 t.heap := hB.2
  rw [ht] at hW1
  exact kk H1 locs1 hW1 hS1
noncomputable def eJ2_add_2 (τ : HP) (o_ : Nat) (a0 : Nat) (a1 : Nat) (a2 : Int32) : Option (HP) :=
  wt_bd (hln τ a1 2) fun m1 => wt_bd (if a2 = (Int32.ofNat m1) then (wt_ck (hcl τ o_ = some 13) <| wt_bd (eJ2_grow τ o_) fun w9 => some (w9.1, w9.2)) else (some (a1, τ))) fun w3 => wt_bd (haR w3.2 w3.1 2) fun z11 => wt_ck (vp_in a2 z11.1) <| wt_bd (hcl w3.2 a0) fun c14 => wt_ck (hob c14 = true) <| wt_lt (hst w3.2 w3.1 (.inl (2, z11.1, .inr (.inr (.inr (.inr (va_up z11.2 a2.toNatClampNeg (some a0)))))))) fun τ17 => wt_bd (hp τ17 o_ [13] 2 (.int ((a2 + (1 : Int32))))) fun τ18 => some (τ18)
set_option maxHeartbeats 4000000 in
theorem wJ2_add_2 (l : Launch) {G : HG} {A : Nat → Prop} {τ : HP} {o_ : Nat} {a0 : Nat} {a1 : Nat} {a2 : Int32} {out_ : HP} (hd : eJ2_add_2 τ o_ a0 a1 a2 = some out_) : Met l yJ2_add_2 (ws_ yJ2_add_2 cJ2_add_2 4 none) ({ frames := 5, cells := 1, slots := 32, locals := 119 }) (hPc G A τ [.ref o_, .ref a0, .ref a1, .int a2]) (hQv G out_ A) 1 32 A := by
  refine Met.ofW (cc := cJ2_add_2) (maxL := 4) (ret := none) (by decide) rfl ?_
  intro p_ e_ s_ m_ args_ below_ meth_ c_ s₁_ B hml hv
  obtain ⟨rfl, hW, hC⟩ := hv
  have hx := B.exec
  have hb := B.bytes
  have hr := B.returns
  have hts := atoms_spec (ws := (ws_ yJ2_add_2 cJ2_add_2 4 none)) B.pre
  have hts : ∀ w ∈ lw_all, w.before _ s_ = true := fun w h => hts w (List.mem_cons_of_mem _ h)
  have hown : s_.vm.findClass RJ2 = some m_.cls := findClass_of_methodNamed B.named
  have hlocks := B.notSynchronized
  have hK := hC.1
  have hT := hC.2.1
  have hL := hC.2.2.1
  have hZ := hC.2.2.2.2.1
  have hA := hC.2.2.2.2.2
  have hS : va_S A s_.heap s_.heap [] := va_S.rf
  have hl := lv_entry ([.ref o_, .ref a0, .ref a1, .int a2]) (n := 4) (Nat.le_of_ble_eq_true rfl)
  rw [lg_entry_eq]
  generalize (lg_sl ([.ref o_, .ref a0, .ref a1, .int a2]) ++ List.replicate (4 - (lg_sl ([.ref o_, .ref a0, .ref a1, .int a2])).length) Slot.unset).toArray = ls at hl ⊢
  have hl : lv_has ls 4 [(0, .ref o_), (1, .ref a0), (2, .ref a1), (3, .int a2)] := hl
  unfold eJ2_add_2 at hd
  refine lv_iload_n (pc := 0) hx hb dJ2_add_2_0 rfl (lv_at hl 3 rfl) ?_
  refine lv_aload_n (pc := 1) hx hb dJ2_add_2_1 rfl (lv_at hl 2 rfl) ?_
  obtain ⟨m1, h2, hd⟩ := wt_bd_o hd
  refine hr_alen (pc := 2) (t := 2) hx hb hK hW h2 rfl rfl dJ2_add_2_2 ?_
  obtain ⟨w3, hj4, hq5⟩ := wt_bd_o hd
  have hX6 : ∀ w3_ : Nat × HP, w3_ = w3 → ∀ (H : Heap) (locs : List Loc) (ls : Array Slot), Hw G A w3_.2 H → va_S A s_.heap H locs → lv_has ls 4 [(0, .ref o_), (1, .ref a0), (2, .ref w3_.1), (3, .int a2)] → W p_ l e_ (headSpec (ws_ yJ2_add_2 cJ2_add_2 4 none) ({ frames := 5, cells := 1, slots := 32, locals := 119 })).room s_ m_ ([.ref o_, .ref a0, .ref a1, .int a2] : List Value).toArray below_ meth_ c_ H locs 1 32 (MQ below_ (hQv G out_ A) ([.ref o_, .ref a0, .ref a1, .int a2] : List Value).toArray s_ 1 32 A) (F0 m_ 11 ls []) := by
    intro w3_ hw_
    have hd := hq5
    subst hw_
    clear hj4 hq5
    intro H locs ls hW hS hl
    refine lv_aload_n (pc := 11) hx hb dJ2_add_2_11 rfl (lv_at hl 2 rfl) ?_
    refine lv_iload_n (pc := 12) hx hb dJ2_add_2_12 rfl (lv_at hl 3 rfl) ?_
    refine lv_aload_n (pc := 13) hx hb dJ2_add_2_13 rfl (lv_at hl 1 rfl) ?_
    obtain ⟨z11, h12, hd⟩ := wt_bd_o hd
    obtain ⟨h13, hd⟩ := wt_ck_o hd
    obtain ⟨c14, h15, hd⟩ := wt_bd_o hd
    obtain ⟨h16, hd⟩ := wt_ck_o hd
    obtain ⟨τ17, eτ17, hd⟩ := wt_lt_o hd
    refine hr_aastO (pc := 14) hx hb hC hW hS h12 h13 h15 h16 eτ17 dJ2_add_2_14 (fun H locs hW hS => ?_)
    refine lv_aload_n (pc := 15) hx hb dJ2_add_2_15 rfl (lv_at hl 0 rfl) ?_
    refine lv_iload_n (pc := 16) hx hb dJ2_add_2_16 rfl (lv_at hl 3 rfl) ?_
    refine lv_iconst (pc := 17) (v := 1) hx hb dJ2_add_2_17 (by decide) ?_
    refine lv_iadd (pc := 18) hx hb dJ2_add_2_18 ?_
    obtain ⟨τ18, h19, hd⟩ := wt_bd_o hd
    refine hr_put (pc := 19) (ty := .int) hx hb hts hown hK hW hS h19 hf_13_2 (by decide +kernel) rfl rfl (fun _ h => h) q502 dJ2_add_2_19 (fun H locs hW hS => ?_)
    exact hr_vret hx hb hr hlocks (Option.some.inj hd) hW hS dJ2_add_2_22 (Nat.le_of_ble_eq_true rfl) (Nat.le_of_ble_eq_true rfl)
  have hd := hj4
  refine lv_icmp_ne (pc := 3) (tgt := 11) hx hb dJ2_add_2_3 (by decide) (fun c7 => ?_) (fun c7 => ?_)
  · have hd := wt_if hd c7
    refine W.widen (k := 1) (n := 32) (Nat.le_of_ble_eq_true rfl) (Nat.le_of_ble_eq_true rfl) ?_
    exact hX6 (a1, τ) (Option.some.inj hd) _ _ _ hW hS hl
  · have hd := wt_it hd c7
    refine lv_aload_n (pc := 6) hx hb dJ2_add_2_6 rfl (lv_at hl 0 rfl) ?_
    obtain ⟨h8, hd⟩ := wt_ck_o hd
    obtain ⟨w9, hc10, hd⟩ := wt_bd_o hd
    refine kJ2_grow (pc := 7) hx hb hml hown hts hC hW hS h8 hc10 hl.1 (Nat.le_of_ble_eq_true rfl) ⟨Nat.le_of_ble_eq_true rfl, Nat.le_of_ble_eq_true rfl⟩ ⟨(Nat.le_of_ble_eq_true rfl), (Nat.le_of_ble_eq_true rfl)⟩ q610 dJ2_add_2_7 (fun H locs hW hS => ?_)
    refine lv_astore_n (pc := 10) (lv' := [(2, .ref w9.1), (0, .ref o_), (1, .ref a0), (3, .int a2)]) hx hb dJ2_add_2_10 rfl hl (by decide) rfl (fun ls hl => ?_)
    exact hX6 (w9.1, w9.2) (Option.some.inj hd) _ _ _ hW hS (lv_sub hl [1, 2, 0, 3] rfl)
theorem kJ2_add_2 {p : Program} {l : Launch} {e : Env} {R : Room} {s : State} {m : MethodId} {args : Array Value} {below : List Frame} {meth : Method} {c : Code} {H : Heap} {locs : List Loc} {cells slots : Nat} {Q : State → Prop} {cc : ByteArray} {pc : Nat} {ls : Array Slot} {rest : List Value} {nL : Nat} {own : String} {index : Nat} {G : HG} {A : Nat → Prop} {τ : HP} {o_ : Nat} {a0 : Nat} {a1 : Nat} {a2 : Int32} {out_ : HP} (hx : p.tables.exec = Jvm.exec) (hb : c.code = cc) (hml : c.maxLocals = nL) (hown : s.vm.findClass own = some m.cls) (hts : ∀ w ∈ lw_all, w.before args s = true) (hC : Hcx G A s) (hW : Hw G A τ H) (hS : va_S A s.heap H locs) (hrc : hcl τ o_ = some 13) (hd : eJ2_add_2 τ o_ a0 a1 a2 = some out_) (hsz : ls.size = nL) (hrm : (rest.map fun v => v.category).sum ≤ 8) (hR : 6 ≤ R.frames ∧ 142 ≤ R.locals) (hcs : (cells + 1) ≤ R.cells ∧ (slots + 32) ≤ R.slots) (hlk : Cond.methodLink own index yJ2_add_2 ∈ lw_all) (hdg : decode cc pc = .ok (.invokevirtual index, 3)) (kk : ∀ (H1 : Heap) (locs1 : List Loc), Hw G A out_ H1 → va_S A s.heap H1 locs1 → W p l e R s m args below meth c H1 locs1 (cells + 1) (slots + 32) Q (F0 m (pc + 3) ls (rest))) : W p l e R s m args below meth c H locs cells slots Q (F0 m pc ls (.int a2 :: .ref a1 :: .ref a0 :: .ref o_ :: rest)) := by
  refine va_callv (va_runV (As := [.ref a0, .ref a1, .int a2]) (rest := rest) ⟨hx, hb, hml, hown, hts⟩ (wJ2_add_2 l hd) (cwV 3 hts (lw_V hlk q608 qs2 q71 q609) rfl rfl rfl (by decide +kernel) hR) (hr_preV hC hW hS hrc rfl rfl) rfl rfl hsz rfl (lv_room hrm) hdg hcs) hS (fun _ _ h => h) (fun _ h => h) (fun u t H1 locs1 ht hvm hp hB hz hk hS1 => ?_)
  have hW1 : Hw G A out_ t.heap := hB
  rw [ht] at hW1
  exact kk H1 locs1 hW1 hS1
noncomputable def eJ2_add (τ : HP) (o_ : Nat) (a0 : Nat) : Option (Int32 × HP) :=
  wt_bd (hgI τ o_ [13] 0) fun f1 => wt_bd (hp τ o_ [13] 0 (.int ((f1 + (1 : Int32))))) fun τ3 => wt_bd (hgA τ3 o_ [13] 1) fun ad5 => wt_bd (hgI τ3 o_ [13] 2) fun f7 => wt_ck (hcl τ3 o_ = some 13) <| wt_bd (eJ2_add_2 τ3 o_ a0 ad5 f7) fun w10 => some ((1 : Int32), w10)
set_option maxHeartbeats 4000000 in
theorem wJ2_add (l : Launch) {G : HG} {A : Nat → Prop} {τ : HP} {o_ : Nat} {a0 : Nat} {out_ : Int32 × HP} (hd : eJ2_add τ o_ a0 = some out_) : Met l yJ2_add (ws_ yJ2_add cJ2_add 2 (some .boolean)) ({ frames := 6, cells := 1, slots := 32, locals := 142 }) (hPc G A τ [.ref o_, .ref a0]) (hQi G out_.1 out_.2 A) 1 32 A := by
  refine Met.ofW (cc := cJ2_add) (maxL := 2) (ret := (some .boolean)) (by decide) rfl ?_
  intro p_ e_ s_ m_ args_ below_ meth_ c_ s₁_ B hml hv
  obtain ⟨rfl, hW, hC⟩ := hv
  have hx := B.exec
  have hb := B.bytes
  have hr := B.returns
  have hts := atoms_spec (ws := (ws_ yJ2_add cJ2_add 2 (some .boolean))) B.pre
  have hts : ∀ w ∈ lw_all, w.before _ s_ = true := fun w h => hts w (List.mem_cons_of_mem _ h)
  have hown : s_.vm.findClass RJ2 = some m_.cls := findClass_of_methodNamed B.named
  have hlocks := B.notSynchronized
  have hK := hC.1
  have hT := hC.2.1
  have hL := hC.2.2.1
  have hZ := hC.2.2.2.2.1
  have hA := hC.2.2.2.2.2
  have hS : va_S A s_.heap s_.heap [] := va_S.rf
  have hl := lv_entry ([.ref o_, .ref a0]) (n := 2) (Nat.le_of_ble_eq_true rfl)
  rw [lg_entry_eq]
  generalize (lg_sl ([.ref o_, .ref a0]) ++ List.replicate (2 - (lg_sl ([.ref o_, .ref a0])).length) Slot.unset).toArray = ls at hl ⊢
  have hl : lv_has ls 2 [(0, .ref o_), (1, .ref a0)] := hl
  unfold eJ2_add at hd
  refine lv_aload_n (pc := 0) hx hb dJ2_add_0 rfl (lv_at hl 0 rfl) ?_
  refine lv_dup (pc := 1) hx hb dJ2_add_1 rfl ?_
  obtain ⟨f1, h2, hd⟩ := wt_bd_o hd
  refine hr_get (pc := 2) hx hb hts hown hK hW (hgI_o h2) hf_13_0 (u_same (hts _ q505)) q504 dJ2_add_2 ?_
  refine lv_iconst (pc := 5) (v := 1) hx hb dJ2_add_5 (by decide) ?_
  refine lv_iadd (pc := 6) hx hb dJ2_add_6 ?_
  obtain ⟨τ3, h4, hd⟩ := wt_bd_o hd
  refine hr_put (pc := 7) (ty := .int) hx hb hts hown hK hW hS h4 hf_13_0 (by decide +kernel) rfl rfl (u_same (hts _ q505)) q504 dJ2_add_7 (fun H locs hW hS => ?_)
  refine lv_aload_n (pc := 10) hx hb dJ2_add_10 rfl (lv_at hl 0 rfl) ?_
  refine lv_aload_n (pc := 11) hx hb dJ2_add_11 rfl (lv_at hl 1 rfl) ?_
  refine lv_aload_n (pc := 12) hx hb dJ2_add_12 rfl (lv_at hl 0 rfl) ?_
  obtain ⟨ad5, h6, hd⟩ := wt_bd_o hd
  refine hr_get (pc := 13) hx hb hts hown hK hW (hgA_o h6) hf_13_1 (fun _ h => h) q501 dJ2_add_13 ?_
  refine lv_aload_n (pc := 16) hx hb dJ2_add_16 rfl (lv_at hl 0 rfl) ?_
  obtain ⟨f7, h8, hd⟩ := wt_bd_o hd
  refine hr_get (pc := 17) hx hb hts hown hK hW (hgI_o h8) hf_13_2 (fun _ h => h) q502 dJ2_add_17 ?_
  obtain ⟨h9, hd⟩ := wt_ck_o hd
  obtain ⟨w10, hc11, hd⟩ := wt_bd_o hd
  refine kJ2_add_2 (pc := 20) hx hb hml hown hts hC hW hS h9 hc11 hl.1 (Nat.le_of_ble_eq_true rfl) ⟨Nat.le_of_ble_eq_true rfl, Nat.le_of_ble_eq_true rfl⟩ ⟨(Nat.le_of_ble_eq_true rfl), (Nat.le_of_ble_eq_true rfl)⟩ q606 dJ2_add_20 (fun H locs hW hS => ?_)
  refine lv_iconst (pc := 23) (v := 1) hx hb dJ2_add_23 (by decide) ?_
  exact hr_iret hx hb hr rfl hlocks (wt_p1 hd) (wt_p2 hd) hW hS dJ2_add_24 (Nat.le_of_ble_eq_true rfl) (Nat.le_of_ble_eq_true rfl)
theorem kJ2_add {p : Program} {l : Launch} {e : Env} {R : Room} {s : State} {m : MethodId} {args : Array Value} {below : List Frame} {meth : Method} {c : Code} {H : Heap} {locs : List Loc} {cells slots : Nat} {Q : State → Prop} {cc : ByteArray} {pc : Nat} {ls : Array Slot} {rest : List Value} {nL : Nat} {own : String} {index : Nat} {G : HG} {A : Nat → Prop} {τ : HP} {o_ : Nat} {a0 : Nat} {out_ : Int32 × HP} (hx : p.tables.exec = Jvm.exec) (hb : c.code = cc) (hml : c.maxLocals = nL) (hown : s.vm.findClass own = some m.cls) (hts : ∀ w ∈ lw_all, w.before args s = true) (hC : Hcx G A s) (hW : Hw G A τ H) (hS : va_S A s.heap H locs) (hrc : hcl τ o_ = some 13) (hd : eJ2_add τ o_ a0 = some out_) (hsz : ls.size = nL) (hrm : (rest.map fun v => v.category).sum ≤ 8) (hR : 7 ≤ R.frames ∧ 163 ≤ R.locals) (hcs : (cells + 1) ≤ R.cells ∧ (slots + 32) ≤ R.slots) (hlk : Cond.methodLink own index yJ2_add ∈ lw_all) (hdg : decode cc pc = .ok (.invokevirtual index, 3)) (kk : ∀ (H1 : Heap) (locs1 : List Loc), Hw G A out_.2 H1 → va_S A s.heap H1 locs1 → W p l e R s m args below meth c H1 locs1 (cells + 1) (slots + 32) Q (F0 m (pc + 3) ls (.int out_.1 :: rest))) : W p l e R s m args below meth c H locs cells slots Q (F0 m pc ls (.ref a0 :: .ref o_ :: rest)) := by
  refine va_calli (va_runV (As := [.ref a0]) (rest := rest) ⟨hx, hb, hml, hown, hts⟩ (wJ2_add l hd) (cwV 1 hts (lw_V hlk q603 q604 q71 q605) rfl rfl rfl (by decide +kernel) hR) (hr_preV hC hW hS hrc rfl rfl) rfl rfl hsz rfl (lv_room hrm) hdg hcs) hS (fun _ _ h => h) (fun _ h => h) (fun r u t H1 locs1 ht hvm hp hB hz hk hS1 => ?_)
  have hp : r = out_.1 := hp
  subst hp
  have hW1 : Hw G A out_.2 t.heap := hB
  rw [ht] at hW1
  exact kk H1 locs1 hW1 hS1
noncomputable def eJ2_fastRemove (τ : HP) (o_ : Nat) (a0 : Nat) (a1 : Int32) : Option (HP) :=
  wt_bd (hgI τ o_ [13] 0) fun f1 => wt_bd (hp τ o_ [13] 0 (.int ((f1 + (1 : Int32))))) fun τ3 => wt_bd (hgI τ3 o_ [13] 2) fun f5 => wt_lt ((f5 - (1 : Int32))) fun n7 => wt_bd (if (f5 - (1 : Int32)) ≤ a1 then (some (τ3)) else (wt_bd (haR τ3 a0 2) fun z13 => wt_bd (haR τ3 a0 2) fun z15 => wt_ck (¬ (a1 + (1 : Int32)) < 0 ∧ ¬ a1 < 0 ∧ ¬ (n7 - a1) < 0 ∧ (a1 + (1 : Int32)).toNatClampNeg + (n7 - a1).toNatClampNeg ≤ z13.1 ∧ a1.toNatClampNeg + (n7 - a1).toNatClampNeg ≤ z15.1) <| wt_ck (∀ i, i < (n7 - a1).toNatClampNeg → ∀ y, z13.2 ((a1 + (1 : Int32)).toNatClampNeg + i) = some y → ∃ c, hcl τ3 y = some c ∧ hob c = true) <| wt_lt (hst τ3 a0 (.inl (2, z15.1, .inr (.inr (.inr (.inr (va_cpy z13.2 z15.2 (a1 + (1 : Int32)).toNatClampNeg a1.toNatClampNeg (n7 - a1).toNatClampNeg))))))) fun τ19 => some (τ19))) fun w8 => wt_bd (hp w8 o_ [13] 2 (.int n7)) fun τ20 => wt_bd (haR τ20 a0 2) fun z22 => wt_ck (vp_in n7 z22.1) <| wt_lt (hst τ20 a0 (.inl (2, z22.1, .inr (.inr (.inr (.inr (va_up z22.2 n7.toNatClampNeg none))))))) fun τ25 => some (τ25)
set_option maxHeartbeats 4000000 in
theorem wJ2_fastRemove (l : Launch) {G : HG} {A : Nat → Prop} {τ : HP} {o_ : Nat} {a0 : Nat} {a1 : Int32} {out_ : HP} (hd : eJ2_fastRemove τ o_ a0 a1 = some out_) : Met l yJ2_fastRemove (ws_ yJ2_fastRemove cJ2_fastRemove 4 none) ({ frames := 1, cells := 0, slots := 0, locals := 32 }) (hPc G A τ [.ref o_, .ref a0, .int a1]) (hQv G out_ A) 0 0 A := by
  refine Met.ofW (cc := cJ2_fastRemove) (maxL := 4) (ret := none) (by decide) rfl ?_
  intro p_ e_ s_ m_ args_ below_ meth_ c_ s₁_ B hml hv
  obtain ⟨rfl, hW, hC⟩ := hv
  have hx := B.exec
  have hb := B.bytes
  have hr := B.returns
  have hts := atoms_spec (ws := (ws_ yJ2_fastRemove cJ2_fastRemove 4 none)) B.pre
  have hts : ∀ w ∈ lw_all, w.before _ s_ = true := fun w h => hts w (List.mem_cons_of_mem _ h)
  have hown : s_.vm.findClass RJ2 = some m_.cls := findClass_of_methodNamed B.named
  have hlocks := B.notSynchronized
  have hK := hC.1
  have hT := hC.2.1
  have hL := hC.2.2.1
  have hZ := hC.2.2.2.2.1
  have hA := hC.2.2.2.2.2
  have hS : va_S A s_.heap s_.heap [] := va_S.rf
  have hl := lv_entry ([.ref o_, .ref a0, .int a1]) (n := 4) (Nat.le_of_ble_eq_true rfl)
  rw [lg_entry_eq]
  generalize (lg_sl ([.ref o_, .ref a0, .int a1]) ++ List.replicate (4 - (lg_sl ([.ref o_, .ref a0, .int a1])).length) Slot.unset).toArray = ls at hl ⊢
  have hl : lv_has ls 4 [(0, .ref o_), (1, .ref a0), (2, .int a1)] := hl
  unfold eJ2_fastRemove at hd
  refine lv_aload_n (pc := 0) hx hb dJ2_fastRemove_0 rfl (lv_at hl 0 rfl) ?_
  refine lv_dup (pc := 1) hx hb dJ2_fastRemove_1 rfl ?_
  obtain ⟨f1, h2, hd⟩ := wt_bd_o hd
  refine hr_get (pc := 2) hx hb hts hown hK hW (hgI_o h2) hf_13_0 (u_same (hts _ q505)) q504 dJ2_fastRemove_2 ?_
  refine lv_iconst (pc := 5) (v := 1) hx hb dJ2_fastRemove_5 (by decide) ?_
  refine lv_iadd (pc := 6) hx hb dJ2_fastRemove_6 ?_
  obtain ⟨τ3, h4, hd⟩ := wt_bd_o hd
  refine hr_put (pc := 7) (ty := .int) hx hb hts hown hK hW hS h4 hf_13_0 (by decide +kernel) rfl rfl (u_same (hts _ q505)) q504 dJ2_fastRemove_7 (fun H locs hW hS => ?_)
  refine lv_aload_n (pc := 10) hx hb dJ2_fastRemove_10 rfl (lv_at hl 0 rfl) ?_
  obtain ⟨f5, h6, hd⟩ := wt_bd_o hd
  refine hr_get (pc := 11) hx hb hts hown hK hW (hgI_o h6) hf_13_2 (fun _ h => h) q502 dJ2_fastRemove_11 ?_
  refine lv_iconst (pc := 14) (v := 1) hx hb dJ2_fastRemove_14 (by decide) ?_
  refine lv_isub (pc := 15) hx hb dJ2_fastRemove_15 ?_
  refine lv_dup (pc := 16) hx hb dJ2_fastRemove_16 rfl ?_
  obtain ⟨n7, en7, hd⟩ := wt_lt_o hd
  refine lv_tope en7 ?_
  refine lv_istore_n (pc := 17) (lv' := [(3, .int n7), (0, .ref o_), (1, .ref a0), (2, .int a1)]) hx hb dJ2_fastRemove_17 rfl hl (by decide) rfl (fun ls hl => ?_)
  refine lv_iload_n (pc := 18) hx hb dJ2_fastRemove_18 rfl (lv_at hl 3 rfl) ?_
  obtain ⟨w8, hj9, hq10⟩ := wt_bd_o hd
  have hX11 : ∀ w8_ : HP, w8_ = w8 → ∀ (H : Heap) (locs : List Loc) (ls : Array Slot), Hw G A w8_ H → va_S A s_.heap H locs → lv_has ls 4 [(0, .ref o_), (1, .ref a0), (3, .int n7)] → W p_ l e_ (headSpec (ws_ yJ2_fastRemove cJ2_fastRemove 4 none) ({ frames := 1, cells := 0, slots := 0, locals := 32 })).room s_ m_ ([.ref o_, .ref a0, .int a1] : List Value).toArray below_ meth_ c_ H locs 0 0 (MQ below_ (hQv G out_ A) ([.ref o_, .ref a0, .int a1] : List Value).toArray s_ 0 0 A) (F0 m_ 34 ls []) := by
    intro w8_ hw_
    have hd := hq10
    subst hw_
    clear hj9 hq10
    intro H locs ls hW hS hl
    refine lv_aload_n (pc := 34) hx hb dJ2_fastRemove_34 rfl (lv_at hl 1 rfl) ?_
    refine lv_aload_n (pc := 35) hx hb dJ2_fastRemove_35 rfl (lv_at hl 0 rfl) ?_
    refine lv_iload_n (pc := 36) hx hb dJ2_fastRemove_36 rfl (lv_at hl 2 rfl) ?_
    refine lv_dup_x1 (pc := 37) hx hb dJ2_fastRemove_37 rfl rfl ?_
    obtain ⟨τ20, h21, hd⟩ := wt_bd_o hd
    refine hr_put (pc := 38) (ty := .int) hx hb hts hown hK hW hS h21 hf_13_2 (by decide +kernel) rfl rfl (fun _ h => h) q502 dJ2_fastRemove_38 (fun H locs hW hS => ?_)
    refine lv_null (pc := 41) hx hb dJ2_fastRemove_41 ?_
    obtain ⟨z22, h23, hd⟩ := wt_bd_o hd
    obtain ⟨h24, hd⟩ := wt_ck_o hd
    obtain ⟨τ25, eτ25, hd⟩ := wt_lt_o hd
    refine hr_aastN (pc := 42) (t := 2) hx hb hK hW hS h23 rfl (by decide) h24 eτ25 dJ2_fastRemove_42 (fun H locs hW hS => ?_)
    exact hr_vret hx hb hr hlocks (Option.some.inj hd) hW hS dJ2_fastRemove_43 (Nat.le_of_ble_eq_true rfl) (Nat.le_of_ble_eq_true rfl)
  have hd := hj9
  refine lv_icmp_le (pc := 19) (tgt := 34) hx hb dJ2_fastRemove_19 (by decide) (fun c12 => ?_) (fun c12 => ?_)
  · have hd := wt_it hd c12
    exact hX11 τ3 (Option.some.inj hd) _ _ _ hW hS (lv_sub hl [1, 2, 0] rfl)
  · have hd := wt_if hd c12
    refine lv_aload_n (pc := 22) hx hb dJ2_fastRemove_22 rfl (lv_at hl 2 rfl) ?_
    refine lv_iload_n (pc := 23) hx hb dJ2_fastRemove_23 rfl (lv_at hl 3 rfl) ?_
    refine lv_iconst (pc := 24) (v := 1) hx hb dJ2_fastRemove_24 (by decide) ?_
    refine lv_iadd (pc := 25) hx hb dJ2_fastRemove_25 ?_
    refine lv_aload_n (pc := 26) hx hb dJ2_fastRemove_26 rfl (lv_at hl 2 rfl) ?_
    refine lv_iload_n (pc := 27) hx hb dJ2_fastRemove_27 rfl (lv_at hl 3 rfl) ?_
    refine lv_iload_n (pc := 28) hx hb dJ2_fastRemove_28 rfl (lv_at hl 0 rfl) ?_
    refine lv_iload_n (pc := 29) hx hb dJ2_fastRemove_29 rfl (lv_at hl 3 rfl) ?_
    refine lv_isub (pc := 30) hx hb dJ2_fastRemove_30 ?_
    obtain ⟨z13, h14, hd⟩ := wt_bd_o hd
    obtain ⟨z15, h16, hd⟩ := wt_bd_o hd
    obtain ⟨h17, hd⟩ := wt_ck_o hd
    obtain ⟨h18, hd⟩ := wt_ck_o hd
    obtain ⟨τ19, eτ19, hd⟩ := wt_lt_o hd
    refine hr_copyR (pc := 31) (t := 2) hx hb (hml.trans hl.1.symm) hts hown hC hW hS h14 h16 rfl (by decide) h17 h18 eτ19 (hts _ q1249) (Nat.le_of_ble_eq_true rfl) (Nat.le_of_ble_eq_true rfl) dJ2_fastRemove_31 (fun H locs hW hS => ?_)
    exact hX11 τ19 (Option.some.inj hd) _ _ _ hW hS (lv_sub hl [1, 2, 0] rfl)
theorem kJ2_fastRemove {p : Program} {l : Launch} {e : Env} {R : Room} {s : State} {m : MethodId} {args : Array Value} {below : List Frame} {meth : Method} {c : Code} {H : Heap} {locs : List Loc} {cells slots : Nat} {Q : State → Prop} {cc : ByteArray} {pc : Nat} {ls : Array Slot} {rest : List Value} {nL : Nat} {own : String} {index : Nat} {G : HG} {A : Nat → Prop} {τ : HP} {o_ : Nat} {a0 : Nat} {a1 : Int32} {out_ : HP} (hx : p.tables.exec = Jvm.exec) (hb : c.code = cc) (hml : c.maxLocals = nL) (hown : s.vm.findClass own = some m.cls) (hts : ∀ w ∈ lw_all, w.before args s = true) (hC : Hcx G A s) (hW : Hw G A τ H) (hS : va_S A s.heap H locs) (hrc : hcl τ o_ = some 13) (hd : eJ2_fastRemove τ o_ a0 a1 = some out_) (hsz : ls.size = nL) (hrm : (rest.map fun v => v.category).sum ≤ 8) (hR : 2 ≤ R.frames ∧ 55 ≤ R.locals) (hcs : cells ≤ R.cells ∧ slots ≤ R.slots) (hlk : Cond.methodLink own index yJ2_fastRemove ∈ lw_all) (hdg : decode cc pc = .ok (.invokevirtual index, 3)) (kk : ∀ (H1 : Heap) (locs1 : List Loc), Hw G A out_ H1 → va_S A s.heap H1 locs1 → W p l e R s m args below meth c H1 locs1 cells slots Q (F0 m (pc + 3) ls (rest))) : W p l e R s m args below meth c H locs cells slots Q (F0 m pc ls (.int a1 :: .ref a0 :: .ref o_ :: rest)) := by
  refine va_callv (va_runV (As := [.ref a0, .int a1]) (rest := rest) ⟨hx, hb, hml, hown, hts⟩ (wJ2_fastRemove l hd) (cwV 2 hts (lw_V hlk q1247 qs18 q71 q1248) rfl rfl rfl (by decide +kernel) hR) (hr_preV hC hW hS hrc rfl rfl) rfl rfl hsz rfl (lv_room hrm) hdg hcs) hS (fun _ _ h => h) (fun _ h => h) (fun u t H1 locs1 ht hvm hp hB hz hk hS1 => ?_)
  have hW1 : Hw G A out_ t.heap := hB
  rw [ht] at hW1
  exact kk H1 locs1 hW1 hS1
noncomputable def eJ2_remove (τ : HP) (o_ : Nat) (a0 : Int32) : Option (Nat × HP) :=
  wt_bd (hgI τ o_ [13] 2) fun f1 => wt_bd (eJ17_checkIndex a0 f1) fun w3 => wt_bd (hgA τ o_ [13] 1) fun ad5 => wt_bd (haR τ ad5 2) fun z7 => wt_ck (vp_in a0 z7.1) <| wt_bd ((z7.2 a0.toNatClampNeg)) fun ad10 => wt_ck (hcl τ o_ = some 13) <| wt_bd (eJ2_fastRemove τ o_ ad5 a0) fun w13 => some (ad10, w13)
set_option maxHeartbeats 4000000 in
theorem wJ2_remove (l : Launch) {G : HG} {A : Nat → Prop} {τ : HP} {o_ : Nat} {a0 : Int32} {out_ : Nat × HP} (hd : eJ2_remove τ o_ a0 = some out_) : Met l yJ2_remove (ws_ yJ2_remove cJ2_remove 4 (some (.object "java/lang/Object"))) ({ frames := 2, cells := 0, slots := 0, locals := 55 }) (hPc G A τ [.ref o_, .int a0]) (hQr G out_.1 out_.2 A) 0 0 A := by
  refine Met.ofW (cc := cJ2_remove) (maxL := 4) (ret := (some (.object "java/lang/Object"))) (by decide) rfl ?_
  intro p_ e_ s_ m_ args_ below_ meth_ c_ s₁_ B hml hv
  obtain ⟨rfl, hW, hC⟩ := hv
  have hx := B.exec
  have hb := B.bytes
  have hr := B.returns
  have hts := atoms_spec (ws := (ws_ yJ2_remove cJ2_remove 4 (some (.object "java/lang/Object")))) B.pre
  have hts : ∀ w ∈ lw_all, w.before _ s_ = true := fun w h => hts w (List.mem_cons_of_mem _ h)
  have hown : s_.vm.findClass RJ2 = some m_.cls := findClass_of_methodNamed B.named
  have hlocks := B.notSynchronized
  have hK := hC.1
  have hT := hC.2.1
  have hL := hC.2.2.1
  have hZ := hC.2.2.2.2.1
  have hA := hC.2.2.2.2.2
  have hS : va_S A s_.heap s_.heap [] := va_S.rf
  have hl := lv_entry ([.ref o_, .int a0]) (n := 4) (Nat.le_of_ble_eq_true rfl)
  rw [lg_entry_eq]
  generalize (lg_sl ([.ref o_, .int a0]) ++ List.replicate (4 - (lg_sl ([.ref o_, .int a0])).length) Slot.unset).toArray = ls at hl ⊢
  have hl : lv_has ls 4 [(0, .ref o_), (1, .int a0)] := hl
  unfold eJ2_remove at hd
  refine lv_iload_n (pc := 0) hx hb dJ2_remove_0 rfl (lv_at hl 1 rfl) ?_
  refine lv_aload_n (pc := 1) hx hb dJ2_remove_1 rfl (lv_at hl 0 rfl) ?_
  obtain ⟨f1, h2, hd⟩ := wt_bd_o hd
  refine hr_get (pc := 2) hx hb hts hown hK hW (hgI_o h2) hf_13_2 (fun _ h => h) q502 dJ2_remove_2 ?_
  obtain ⟨w3, hc4, hd⟩ := wt_bd_o hd
  refine kJ17_checkIndex (pc := 5) hx hb hml hown hts hC hW hS hc4 hl.1 (Nat.le_of_ble_eq_true rfl) ⟨Nat.le_of_ble_eq_true rfl, Nat.le_of_ble_eq_true rfl⟩ ⟨Nat.le_of_ble_eq_true rfl, Nat.le_of_ble_eq_true rfl⟩ q591 dJ2_remove_5 (fun H locs hW hS => ?_)
  refine lv_pop (pc := 8) hx hb dJ2_remove_8 rfl ?_
  refine lv_aload_n (pc := 9) hx hb dJ2_remove_9 rfl (lv_at hl 0 rfl) ?_
  obtain ⟨ad5, h6, hd⟩ := wt_bd_o hd
  refine hr_get (pc := 10) hx hb hts hown hK hW (hgA_o h6) hf_13_1 (fun _ h => h) q501 dJ2_remove_10 ?_
  refine lv_astore_n (pc := 13) (lv' := [(2, .ref ad5), (0, .ref o_), (1, .int a0)]) hx hb dJ2_remove_13 rfl hl (by decide) rfl (fun ls hl => ?_)
  refine lv_aload_n (pc := 14) hx hb dJ2_remove_14 rfl (lv_at hl 0 rfl) ?_
  refine lv_iload_n (pc := 15) hx hb dJ2_remove_15 rfl (lv_at hl 2 rfl) ?_
  obtain ⟨z7, h8, hd⟩ := wt_bd_o hd
  obtain ⟨h9, hd⟩ := wt_ck_o hd
  refine hr_aald (pc := 16) (t := 2) hx hb hK hW h8 rfl h9 dJ2_remove_16 ?_
  obtain ⟨ad10, h11, hd⟩ := wt_bd_o hd
  refine lv_rfe h11 ?_
  refine lv_astore_n (pc := 17) (lv' := [(3, .ref ad10), (2, .ref ad5), (0, .ref o_), (1, .int a0)]) hx hb dJ2_remove_17 rfl hl (by decide) rfl (fun ls hl => ?_)
  refine lv_aload_n (pc := 18) hx hb dJ2_remove_18 rfl (lv_at hl 2 rfl) ?_
  refine lv_aload_n (pc := 19) hx hb dJ2_remove_19 rfl (lv_at hl 1 rfl) ?_
  refine lv_iload_n (pc := 20) hx hb dJ2_remove_20 rfl (lv_at hl 3 rfl) ?_
  obtain ⟨h12, hd⟩ := wt_ck_o hd
  obtain ⟨w13, hc14, hd⟩ := wt_bd_o hd
  refine kJ2_fastRemove (pc := 21) hx hb hml hown hts hC hW hS h12 hc14 hl.1 (Nat.le_of_ble_eq_true rfl) ⟨Nat.le_of_ble_eq_true rfl, Nat.le_of_ble_eq_true rfl⟩ ⟨Nat.le_of_ble_eq_true rfl, Nat.le_of_ble_eq_true rfl⟩ q1245 dJ2_remove_21 (fun H locs hW hS => ?_)
  refine lv_aload_n (pc := 24) hx hb dJ2_remove_24 rfl (lv_at hl 0 rfl) ?_
  exact hr_aret hx hb hr (Or.inl ⟨_, rfl⟩) hlocks (wt_p1 hd) (wt_p2 hd) hW hS dJ2_remove_25 (Nat.le_of_ble_eq_true rfl) (Nat.le_of_ble_eq_true rfl)
theorem kJ2_remove {p : Program} {l : Launch} {e : Env} {R : Room} {s : State} {m : MethodId} {args : Array Value} {below : List Frame} {meth : Method} {c : Code} {H : Heap} {locs : List Loc} {cells slots : Nat} {Q : State → Prop} {cc : ByteArray} {pc : Nat} {ls : Array Slot} {rest : List Value} {nL : Nat} {own : String} {index : Nat} {G : HG} {A : Nat → Prop} {τ : HP} {o_ : Nat} {a0 : Int32} {out_ : Nat × HP} (hx : p.tables.exec = Jvm.exec) (hb : c.code = cc) (hml : c.maxLocals = nL) (hown : s.vm.findClass own = some m.cls) (hts : ∀ w ∈ lw_all, w.before args s = true) (hC : Hcx G A s) (hW : Hw G A τ H) (hS : va_S A s.heap H locs) (hrc : hcl τ o_ = some 13) (hd : eJ2_remove τ o_ a0 = some out_) (hsz : ls.size = nL) (hrm : (rest.map fun v => v.category).sum ≤ 8) (hR : 3 ≤ R.frames ∧ 78 ≤ R.locals) (hcs : cells ≤ R.cells ∧ slots ≤ R.slots) (hlk : Cond.methodLink own index yJ2_remove ∈ lw_all) (hdg : decode cc pc = .ok (.invokevirtual index, 3)) (kk : ∀ (H1 : Heap) (locs1 : List Loc), Hw G A out_.2 H1 → va_S A s.heap H1 locs1 → W p l e R s m args below meth c H1 locs1 cells slots Q (F0 m (pc + 3) ls (.ref out_.1 :: rest))) : W p l e R s m args below meth c H locs cells slots Q (F0 m pc ls (.int a0 :: .ref o_ :: rest)) := by
  refine va_callr (va_runV (As := [.int a0]) (rest := rest) ⟨hx, hb, hml, hown, hts⟩ (wJ2_remove l hd) (cwV 1 hts (lw_V hlk q1242 q1243 q71 q1244) rfl rfl rfl (by decide +kernel) hR) (hr_preV hC hW hS hrc rfl rfl) rfl rfl hsz rfl (lv_room hrm) hdg hcs) hS (fun _ _ h => h) (fun _ h => h) (fun u ra t H1 locs1 ht hvm hp hB hz hk hS1 => ?_)
  have hp : ra = out_.1 := hB.1
  subst hp
  have hW1 : Hw G A out_.2 t.heap := hB.2
  rw [ht] at hW1
  exact kk H1 locs1 hW1 hS1
noncomputable def eX3_init (τ : HP) (o_ : Nat) : Option (HP) :=
  wt_lt (hnew τ (.inr (13, [.int 0, .null, .int 0]))) fun τ1 => wt_bd (eJ2_init τ1 τ.2 (2 : Int32)) fun w2 => wt_bd (hp w2 o_ [2] 0 (.ref (τ.2))) fun τ4 => wt_lt (hnew τ4 (.inr (13, [.int 0, .null, .int 0]))) fun τ6 => wt_bd (eJ2_init τ6 τ4.2 (2 : Int32)) fun w7 => wt_bd (hp w7 o_ [2] 1 (.ref (τ4.2))) fun τ9 => wt_lt (hnew τ9 (.inl (0, 40, .inl (fun _ => 0)))) fun τ11 => wt_bd (hp τ11 o_ [2] 2 (.ref (τ9.2))) fun τ12 => some (τ12)
set_option maxHeartbeats 4000000 in
theorem wX3_init (l : Launch) {G : HG} {A : Nat → Prop} {τ : HP} {o_ : Nat} {out_ : HP} (hd : eX3_init τ o_ = some out_) : Met l yX3_init (ws_ yX3_init cX3_init 1 none) ({ frames := 4, cells := 5, slots := 54, locals := 93 }) (hPc G A τ [.ref o_]) (hQv G out_ A) 5 54 A := by
  refine Met.ofW (cc := cX3_init) (maxL := 1) (ret := none) (by decide) rfl ?_
  intro p_ e_ s_ m_ args_ below_ meth_ c_ s₁_ B hml hv
  obtain ⟨rfl, hW, hC⟩ := hv
  have hx := B.exec
  have hb := B.bytes
  have hr := B.returns
  have hts := atoms_spec (ws := (ws_ yX3_init cX3_init 1 none)) B.pre
  have hts : ∀ w ∈ lw_all, w.before _ s_ = true := fun w h => hts w (List.mem_cons_of_mem _ h)
  have hown : s_.vm.findClass RX3 = some m_.cls := findClass_of_methodNamed B.named
  have hlocks := B.notSynchronized
  have hK := hC.1
  have hT := hC.2.1
  have hL := hC.2.2.1
  have hZ := hC.2.2.2.2.1
  have hA := hC.2.2.2.2.2
  have hin2 : meth_.name = "<init>" := (name_of_methodNamed B.named B.method).1
  have hS : va_S A s_.heap s_.heap [] := va_S.rf
  have hl := lv_entry ([.ref o_]) (n := 1) (Nat.le_of_ble_eq_true rfl)
  rw [lg_entry_eq]
  generalize (lg_sl ([.ref o_]) ++ List.replicate (1 - (lg_sl ([.ref o_])).length) Slot.unset).toArray = ls at hl ⊢
  have hl : lv_has ls 1 [(0, .ref o_)] := hl
  unfold eX3_init at hd
  refine lv_aload_n (pc := 0) hx hb dX3_init_0 rfl (lv_at hl 0 rfl) ?_
  refine W.objInit (g := F0 m_ 1 ls _) hx hb hown (hts _ q168) (hts _ q110) (hts _ q111) rfl (by rw [hml]; exact hl.1) rfl dX3_init_1 (Nat.le_of_ble_eq_true rfl) (Nat.le_of_ble_eq_true rfl) ?_
  refine W.eq (g2 := F0 m_ 4 ls []) rfl ?_
  refine lv_aload_n (pc := 4) hx hb dX3_init_4 rfl (lv_at hl 0 rfl) ?_
  obtain ⟨τ1, eτ1, hd⟩ := wt_lt_o hd
  refine hr_new (pc := 5) (ci := 13) (fs := [.int 0, .null, .int 0]) hx hb hts hown hK hW hS hA rfl tyJ2 tyJ2_ok (by decide +kernel) q169 q170 q71 eτ1 (Nat.le_of_ble_eq_true rfl) (Nat.le_of_ble_eq_true rfl) dX3_init_5 (fun H hW hS => ?_)
  refine lv_dup (pc := 8) hx hb dX3_init_8 rfl ?_
  refine lv_iconst (pc := 9) (v := 2) hx hb dX3_init_9 (by decide) ?_
  obtain ⟨w2, hc3, hd⟩ := wt_bd_o hd
  refine kJ2_init (pc := 10) hx hb hml hown hts hC hW hS hc3 hl.1 (Nat.le_of_ble_eq_true rfl) ⟨Nat.le_of_ble_eq_true rfl, Nat.le_of_ble_eq_true rfl⟩ ⟨(Nat.le_of_ble_eq_true rfl), (Nat.le_of_ble_eq_true rfl)⟩ q171 dX3_init_10 (fun H locs hW hS => ?_)
  obtain ⟨τ4, h5, hd⟩ := wt_bd_o hd
  refine hr_putF (pc := 13) (ty := (.object "java/util/ArrayList")) hx hb hts hown hK hin2 hW hS h5 hf_2_0 (by decide +kernel) rfl rfl q513 dX3_init_13 (fun H locs hW hS => ?_)
  refine lv_aload_n (pc := 16) hx hb dX3_init_16 rfl (lv_at hl 0 rfl) ?_
  obtain ⟨τ6, eτ6, hd⟩ := wt_lt_o hd
  refine hr_new (pc := 17) (ci := 13) (fs := [.int 0, .null, .int 0]) hx hb hts hown hK hW hS hA rfl tyJ2 tyJ2_ok (by decide +kernel) q169 q170 q71 eτ6 (Nat.le_of_ble_eq_true rfl) (Nat.le_of_ble_eq_true rfl) dX3_init_17 (fun H hW hS => ?_)
  refine lv_dup (pc := 20) hx hb dX3_init_20 rfl ?_
  refine lv_iconst (pc := 21) (v := 2) hx hb dX3_init_21 (by decide) ?_
  obtain ⟨w7, hc8, hd⟩ := wt_bd_o hd
  refine kJ2_init (pc := 22) hx hb hml hown hts hC hW hS hc8 hl.1 (Nat.le_of_ble_eq_true rfl) ⟨Nat.le_of_ble_eq_true rfl, Nat.le_of_ble_eq_true rfl⟩ ⟨(Nat.le_of_ble_eq_true rfl), (Nat.le_of_ble_eq_true rfl)⟩ q171 dX3_init_22 (fun H locs hW hS => ?_)
  obtain ⟨τ9, h10, hd⟩ := wt_bd_o hd
  refine hr_putF (pc := 25) (ty := (.object "java/util/ArrayList")) hx hb hts hown hK hin2 hW hS h10 hf_2_1 (by decide +kernel) rfl rfl q516 dX3_init_25 (fun H locs hW hS => ?_)
  refine lv_aload_n (pc := 28) hx hb dX3_init_28 rfl (lv_at hl 0 rfl) ?_
  refine lv_bipush (pc := 29) (v := 40) hx hb dX3_init_29 (by decide) ?_
  obtain ⟨τ11, eτ11, hd⟩ := wt_lt_o hd
  refine hr_newI (pc := 31) (N := 40) hx hb hts hK hW hS hA (by decide) rfl (by decide) eτ11 (Nat.le_of_ble_eq_true rfl) (Nat.le_of_ble_eq_true rfl) dX3_init_31 (fun H hW hS => ?_)
  obtain ⟨τ12, h13, hd⟩ := wt_bd_o hd
  refine hr_putF (pc := 33) (ty := (.array .int)) hx hb hts hown hK hin2 hW hS h13 hf_2_2 (by decide +kernel) rfl rfl q518 dX3_init_33 (fun H locs hW hS => ?_)
  exact hr_vret hx hb hr hlocks (Option.some.inj hd) hW hS dX3_init_36 (Nat.le_of_ble_eq_true rfl) (Nat.le_of_ble_eq_true rfl)
theorem kX3_init {p : Program} {l : Launch} {e : Env} {R : Room} {s : State} {m : MethodId} {args : Array Value} {below : List Frame} {meth : Method} {c : Code} {H : Heap} {locs : List Loc} {cells slots : Nat} {Q : State → Prop} {cc : ByteArray} {pc : Nat} {ls : Array Slot} {rest : List Value} {nL : Nat} {own : String} {index : Nat} {G : HG} {A : Nat → Prop} {τ : HP} {o_ : Nat} {out_ : HP} (hx : p.tables.exec = Jvm.exec) (hb : c.code = cc) (hml : c.maxLocals = nL) (hown : s.vm.findClass own = some m.cls) (hts : ∀ w ∈ lw_all, w.before args s = true) (hC : Hcx G A s) (hW : Hw G A τ H) (hS : va_S A s.heap H locs) (hd : eX3_init τ o_ = some out_) (hsz : ls.size = nL) (hrm : (rest.map fun v => v.category).sum ≤ 8) (hR : 5 ≤ R.frames ∧ 113 ≤ R.locals) (hcs : (cells + 5) ≤ R.cells ∧ (slots + 54) ≤ R.slots) (hlk : Cond.methodLink own index yX3_init ∈ lw_all) (hdg : decode cc pc = .ok (.invokespecial index, 3)) (kk : ∀ (H1 : Heap) (locs1 : List Loc), Hw G A out_ H1 → va_S A s.heap H1 locs1 → W p l e R s m args below meth c H1 locs1 (cells + 5) (slots + 54) Q (F0 m (pc + 3) ls (rest))) : W p l e R s m args below meth c H locs cells slots Q (F0 m pc ls (.ref o_ :: rest)) := by
  refine va_callv (va_runI (As := []) (rest := rest) ⟨hx, hb, hml, hown, hts⟩ (wX3_init l hd) (cwI 0 hts (lw_meth q167) rfl rfl rfl (hts _ q68) (hts _ hlk) (hts _ q166) rfl (by decide +kernel) hR) (hr_preS hC hW hS) rfl rfl hsz rfl (lv_room hrm) hdg hcs) hS (fun _ _ h => h) (fun _ h => h) (fun u t H1 locs1 ht hvm hp hB hz hk hS1 => ?_)
  have hW1 : Hw G A out_ t.heap := hB
  rw [ht] at hW1
  exact kk H1 locs1 hW1 hS1
noncomputable def bX3_like_1 (τ : HP) (o_ : Nat) (v4 : Int32 × HP × Nat × Nat) : Option ((Int32 × HP × Nat × Nat) ⊕ (HP × Nat × Nat)) :=
  wt_bd (hgA v4.2.1 o_ [2] 0) fun ad14 => wt_ck (hcl v4.2.1 ad14 = some 13) <| wt_bd (eJ2_size v4.2.1 ad14) fun w17 => wt_ck (v4.2.2.1 ≤ 30 ∧ v4.2.2.2 ≤ 800) <| if w17 ≤ v4.1 then (some (.inr (v4.2.1, v4.2.2.1, v4.2.2.2))) else (wt_bd (hgA v4.2.1 τ.2 [2] 0) fun ad21 => wt_bd (hgA v4.2.1 o_ [2] 0) fun ad23 => wt_ck (hcl v4.2.1 ad23 = some 13) <| wt_bd (eJ2_get v4.2.1 ad23 v4.1) fun w26 => wt_ck (v4.2.2.1 ≤ 30 ∧ v4.2.2.2 ≤ 800) <| wt_ck (hcl v4.2.1 w26 = some 10) <| wt_ck (hcl v4.2.1 ad21 = some 13) <| wt_bd (eJ2_add v4.2.1 ad21 w26) fun w31 => wt_ck ((v4.2.2.1 + 1) ≤ 30 ∧ (v4.2.2.2 + 32) ≤ 800) <| wt_lt (v4.1 + (1 : Int32)) fun n34 => some (.inl (n34, w31.2, (v4.2.2.1 + 1), (v4.2.2.2 + 32))))
noncomputable def bX3_like_2 (τ : HP) (o_ : Nat) (v35 : Int32 × HP × Nat × Nat) : Option ((Int32 × HP × Nat × Nat) ⊕ (HP × Nat × Nat)) :=
  wt_bd (hgA v35.2.1 o_ [2] 1) fun ad45 => wt_ck (hcl v35.2.1 ad45 = some 13) <| wt_bd (eJ2_size v35.2.1 ad45) fun w48 => wt_ck (v35.2.2.1 ≤ 30 ∧ v35.2.2.2 ≤ 800) <| if w48 ≤ v35.1 then (some (.inr (v35.2.1, v35.2.2.1, v35.2.2.2))) else (wt_bd (hgA v35.2.1 τ.2 [2] 1) fun ad52 => wt_bd (hgA v35.2.1 o_ [2] 1) fun ad54 => wt_ck (hcl v35.2.1 ad54 = some 13) <| wt_bd (eJ2_get v35.2.1 ad54 v35.1) fun w57 => wt_ck (v35.2.2.1 ≤ 30 ∧ v35.2.2.2 ≤ 800) <| wt_ck (hcl v35.2.1 w57 = some 12) <| wt_ck (hcl v35.2.1 ad52 = some 13) <| wt_bd (eJ2_add v35.2.1 ad52 w57) fun w62 => wt_ck ((v35.2.2.1 + 1) ≤ 30 ∧ (v35.2.2.2 + 32) ≤ 800) <| wt_lt (v35.1 + (1 : Int32)) fun n65 => some (.inl (n65, w62.2, (v35.2.2.1 + 1), (v35.2.2.2 + 32))))
noncomputable def eX3_like (τ : HP) (o_ : Nat) : Option (Nat × HP) :=
  wt_lt (hnew τ (.inr (2, [.null, .null, .null, .int 0]))) fun τ1 => wt_bd (eX3_init τ1 τ.2) fun w2 => wt_bd (wt_whC (bX3_like_1 τ o_) ((0 : Int32), w2, 6, 58)) fun w5 => wt_bd (wt_whC (bX3_like_2 τ o_) ((0 : Int32), w5.1, w5.2.1, w5.2.2)) fun w36 => wt_bd (hgA w36.1 o_ [2] 2) fun ad66 => wt_bd (hgA w36.1 τ.2 [2] 2) fun ad68 => wt_bd (haI w36.1 ad66 0) fun z70 => wt_bd (haI w36.1 ad68 0) fun z72 => wt_ck (¬ (0 : Int32) < 0 ∧ ¬ (0 : Int32) < 0 ∧ ¬ (40 : Int32) < 0 ∧ (0 : Int32).toNatClampNeg + (40 : Int32).toNatClampNeg ≤ z70.1 ∧ (0 : Int32).toNatClampNeg + (40 : Int32).toNatClampNeg ≤ z72.1) <| wt_lt (hst w36.1 ad68 (.inl (0, z72.1, .inl (va_cpy z70.2 z72.2 (0 : Int32).toNatClampNeg (0 : Int32).toNatClampNeg (40 : Int32).toNatClampNeg)))) fun τ75 => wt_bd (hgI τ75 o_ [2] 3) fun f76 => wt_bd (hp τ75 τ.2 [2] 3 (.int f76)) fun τ78 => wt_ck (w36.2.1 ≤ 30 ∧ w36.2.2 ≤ 800) <| some (τ.2, τ78)
set_option maxHeartbeats 4000000 in
theorem wX3_like (l : Launch) {G : HG} {A : Nat → Prop} {τ : HP} {o_ : Nat} {out_ : Nat × HP} (hd : eX3_like τ o_ = some out_) : Met l yX3_like (ws_ yX3_like cX3_like 3 (some (.object "WoolThreads$State"))) ({ frames := 7, cells := 30, slots := 800, locals := 163 }) (hPc G A τ [.ref o_]) (hQr G out_.1 out_.2 A) 30 800 A := by
  refine Met.ofW (cc := cX3_like) (maxL := 3) (ret := (some (.object "WoolThreads$State"))) (by decide) rfl ?_
  intro p_ e_ s_ m_ args_ below_ meth_ c_ s₁_ B hml hv
  obtain ⟨rfl, hW, hC⟩ := hv
  have hx := B.exec
  have hb := B.bytes
  have hr := B.returns
  have hts := atoms_spec (ws := (ws_ yX3_like cX3_like 3 (some (.object "WoolThreads$State")))) B.pre
  have hts : ∀ w ∈ lw_all, w.before _ s_ = true := fun w h => hts w (List.mem_cons_of_mem _ h)
  have hown : s_.vm.findClass RX3 = some m_.cls := findClass_of_methodNamed B.named
  have hlocks := B.notSynchronized
  have hK := hC.1
  have hT := hC.2.1
  have hL := hC.2.2.1
  have hZ := hC.2.2.2.2.1
  have hA := hC.2.2.2.2.2
  have hS : va_S A s_.heap s_.heap [] := va_S.rf
  have hl := lv_entry ([.ref o_]) (n := 3) (Nat.le_of_ble_eq_true rfl)
  rw [lg_entry_eq]
  generalize (lg_sl ([.ref o_]) ++ List.replicate (3 - (lg_sl ([.ref o_])).length) Slot.unset).toArray = ls at hl ⊢
  have hl : lv_has ls 3 [(0, .ref o_)] := hl
  unfold eX3_like at hd
  obtain ⟨τ1, eτ1, hd⟩ := wt_lt_o hd
  refine hr_new (pc := 0) (ci := 2) (fs := [.null, .null, .null, .int 0]) hx hb hts hown hK hW hS hA rfl tyX3 tyX3_ok (by decide +kernel) q581 q164 q68 eτ1 (Nat.le_of_ble_eq_true rfl) (Nat.le_of_ble_eq_true rfl) dX3_like_0 (fun H hW hS => ?_)
  refine lv_dup (pc := 3) hx hb dX3_like_3 rfl ?_
  obtain ⟨w2, hc3, hd⟩ := wt_bd_o hd
  refine kX3_init (pc := 4) hx hb hml hown hts hC hW hS hc3 hl.1 (Nat.le_of_ble_eq_true rfl) ⟨Nat.le_of_ble_eq_true rfl, Nat.le_of_ble_eq_true rfl⟩ ⟨(Nat.le_of_ble_eq_true rfl), (Nat.le_of_ble_eq_true rfl)⟩ q582 dX3_like_4 (fun H locs hW hS => ?_)
  refine lv_astore_n (pc := 7) (lv' := [(1, .ref (τ.2)), (0, .ref o_)]) hx hb dX3_like_7 rfl hl (by decide) rfl (fun ls hl => ?_)
  refine lv_iconst (pc := 8) (v := 0) hx hb dX3_like_8 (by decide) ?_
  refine lv_istore_n (pc := 9) (lv' := [(2, .int (0 : Int32)), (1, .ref (τ.2)), (0, .ref o_)]) hx hb dX3_like_9 rfl hl (by decide) rfl (fun ls hl => ?_)
  obtain ⟨w5, hL6, hq7⟩ := wt_bd_o hd
  have hX8 : ∀ w5_ : HP × Nat × Nat, w5_ = w5 → ∀ (H : Heap) (locs : List Loc) (ls : Array Slot), Hw G A w5_.1 H → va_S A s_.heap H locs → lv_has ls 3 [(0, .ref o_), (1, .ref (τ.2))] → W p_ l e_ (headSpec (ws_ yX3_like cX3_like 3 (some (.object "WoolThreads$State"))) ({ frames := 7, cells := 30, slots := 800, locals := 163 })).room s_ m_ ([.ref o_] : List Value).toArray below_ meth_ c_ H locs w5_.2.1 w5_.2.2 (MQ below_ (hQr G out_.1 out_.2 A) ([.ref o_] : List Value).toArray s_ 30 800 A) (F0 m_ 46 ls []) := by
    intro w5_ hw_
    have hd := hq7
    subst hw_
    clear hL6 hq7
    intro H locs ls hW hS hl
    refine lv_iconst (pc := 46) (v := 0) hx hb dX3_like_46 (by decide) ?_
    refine lv_istore_n (pc := 47) (lv' := [(2, .int (0 : Int32)), (0, .ref o_), (1, .ref (τ.2))]) hx hb dX3_like_47 rfl hl (by decide) rfl (fun ls hl => ?_)
    obtain ⟨w36, hL37, hq38⟩ := wt_bd_o hd
    have hX39 : ∀ w36_ : HP × Nat × Nat, w36_ = w36 → ∀ (H : Heap) (locs : List Loc) (ls : Array Slot), Hw G A w36_.1 H → va_S A s_.heap H locs → lv_has ls 3 [(0, .ref o_), (1, .ref (τ.2))] → W p_ l e_ (headSpec (ws_ yX3_like cX3_like 3 (some (.object "WoolThreads$State"))) ({ frames := 7, cells := 30, slots := 800, locals := 163 })).room s_ m_ ([.ref o_] : List Value).toArray below_ meth_ c_ H locs w36_.2.1 w36_.2.2 (MQ below_ (hQr G out_.1 out_.2 A) ([.ref o_] : List Value).toArray s_ 30 800 A) (F0 m_ 84 ls []) := by
      intro w36_ hw_
      have hd := hq38
      subst hw_
      clear hL37 hq38
      intro H locs ls hW hS hl
      refine lv_aload_n (pc := 84) hx hb dX3_like_84 rfl (lv_at hl 0 rfl) ?_
      obtain ⟨ad66, h67, hd⟩ := wt_bd_o hd
      refine hr_get (pc := 85) hx hb hts hown hK hW (hgA_o h67) hf_2_2 (fun _ h => h) q518 dX3_like_85 ?_
      refine lv_iconst (pc := 88) (v := 0) hx hb dX3_like_88 (by decide) ?_
      refine lv_aload_n (pc := 89) hx hb dX3_like_89 rfl (lv_at hl 1 rfl) ?_
      obtain ⟨ad68, h69, hd⟩ := wt_bd_o hd
      refine hr_get (pc := 90) hx hb hts hown hK hW (hgA_o h69) hf_2_2 (fun _ h => h) q518 dX3_like_90 ?_
      refine lv_iconst (pc := 93) (v := 0) hx hb dX3_like_93 (by decide) ?_
      refine lv_bipush (pc := 94) (v := 40) hx hb dX3_like_94 (by decide) ?_
      obtain ⟨z70, h71, hd⟩ := wt_bd_o hd
      obtain ⟨z72, h73, hd⟩ := wt_bd_o hd
      obtain ⟨h74, hd⟩ := wt_ck_o hd
      obtain ⟨τ75, eτ75, hd⟩ := wt_lt_o hd
      refine hr_copyI (pc := 96) (t := 0) hx hb (hml.trans hl.1.symm) hts hown hC hW hS h71 h73 rfl (by decide) h74 (fun _ _ => rfl) eτ75 (hts _ q657) (Nat.le_of_ble_eq_true rfl) (Nat.le_of_ble_eq_true rfl) dX3_like_96 (fun H locs hW hS => ?_)
      refine lv_aload_n (pc := 99) hx hb dX3_like_99 rfl (lv_at hl 1 rfl) ?_
      refine lv_aload_n (pc := 100) hx hb dX3_like_100 rfl (lv_at hl 0 rfl) ?_
      obtain ⟨f76, h77, hd⟩ := wt_bd_o hd
      refine hr_get (pc := 101) hx hb hts hown hK hW (hgI_o h77) hf_2_3 (fun _ h => h) q520 dX3_like_101 ?_
      obtain ⟨τ78, h79, hd⟩ := wt_bd_o hd
      refine hr_put (pc := 104) (ty := .int) hx hb hts hown hK hW hS h79 hf_2_3 (by decide +kernel) rfl rfl (fun _ h => h) q520 dX3_like_104 (fun H locs hW hS => ?_)
      refine lv_aload_n (pc := 107) hx hb dX3_like_107 rfl (lv_at hl 1 rfl) ?_
      obtain ⟨h80, hd⟩ := wt_ck_o hd
      exact hr_aret hx hb hr (Or.inl ⟨_, rfl⟩) hlocks (wt_p1 hd) (wt_p2 hd) hW hS dX3_like_108 (h80.1) (h80.2)
    have hI44 : ∀ (k43 : Nat) (v35 : Int32 × HP × Nat × Nat), wt_wh (bX3_like_2 τ o_) k43 v35 = some w36 → ∀ (H : Heap) (locs : List Loc) (ls : Array Slot), Hw G A v35.2.1 H → va_S A s_.heap H locs → lv_has ls 3 [(0, .ref o_), (1, .ref (τ.2)), (2, .int v35.1)] → W p_ l e_ (headSpec (ws_ yX3_like cX3_like 3 (some (.object "WoolThreads$State"))) ({ frames := 7, cells := 30, slots := 800, locals := 163 })).room s_ m_ ([.ref o_] : List Value).toArray below_ meth_ c_ H locs v35.2.2.1 v35.2.2.2 (MQ below_ (hQr G out_.1 out_.2 A) ([.ref o_] : List Value).toArray s_ 30 800 A) (F0 m_ 48 ls []) := by
      intro k43
      induction k43 with
      | zero => intro v35 hd; exact absurd hd wt_wh_z
      | succ k43 ih41 =>
        intro v35 hd
        intro H locs ls hW hS hl
        obtain ⟨r42, hd, hk40⟩ := wt_wh_o hd
        unfold bX3_like_2 at hd
        refine lv_iload_n (pc := 48) hx hb dX3_like_48 rfl (lv_at hl 2 rfl) ?_
        refine lv_aload_n (pc := 49) hx hb dX3_like_49 rfl (lv_at hl 0 rfl) ?_
        obtain ⟨ad45, h46, hd⟩ := wt_bd_o hd
        refine hr_get (pc := 50) hx hb hts hown hK hW (hgA_o h46) hf_2_1 (fun _ h => h) q516 dX3_like_50 ?_
        obtain ⟨h47, hd⟩ := wt_ck_o hd
        obtain ⟨w48, hc49, hd⟩ := wt_bd_o hd
        obtain ⟨h50, hd⟩ := wt_ck_o hd
        refine kJ2_size (pc := 53) hx hb hml hown hts hC hW hS h47 hc49 hl.1 (Nat.le_of_ble_eq_true rfl) ⟨Nat.le_of_ble_eq_true rfl, Nat.le_of_ble_eq_true rfl⟩ ⟨h50.1, h50.2⟩ q583 dX3_like_53 (fun H locs hW hS => ?_)
        refine lv_icmp_ge (pc := 56) (tgt := 84) hx hb dX3_like_56 (by decide) (fun c51 => ?_) (fun c51 => ?_)
        · have hd := wt_it hd c51
          exact hX39 (v35.2.1, v35.2.2.1, v35.2.2.2) (wt_exit hd hk40) _ _ _ hW hS (lv_sub hl [0, 1] rfl)
        · have hd := wt_if hd c51
          refine lv_aload_n (pc := 59) hx hb dX3_like_59 rfl (lv_at hl 1 rfl) ?_
          obtain ⟨ad52, h53, hd⟩ := wt_bd_o hd
          refine hr_get (pc := 60) hx hb hts hown hK hW (hgA_o h53) hf_2_1 (fun _ h => h) q516 dX3_like_60 ?_
          refine lv_aload_n (pc := 63) hx hb dX3_like_63 rfl (lv_at hl 0 rfl) ?_
          obtain ⟨ad54, h55, hd⟩ := wt_bd_o hd
          refine hr_get (pc := 64) hx hb hts hown hK hW (hgA_o h55) hf_2_1 (fun _ h => h) q516 dX3_like_64 ?_
          refine lv_iload_n (pc := 67) hx hb dX3_like_67 rfl (lv_at hl 2 rfl) ?_
          obtain ⟨h56, hd⟩ := wt_ck_o hd
          obtain ⟨w57, hc58, hd⟩ := wt_bd_o hd
          obtain ⟨h59, hd⟩ := wt_ck_o hd
          refine kJ2_get (pc := 68) hx hb hml hown hts hC hW hS h56 hc58 hl.1 (Nat.le_of_ble_eq_true rfl) ⟨Nat.le_of_ble_eq_true rfl, Nat.le_of_ble_eq_true rfl⟩ ⟨h59.1, h59.2⟩ q587 dX3_like_68 (fun H locs hW hS => ?_)
          obtain ⟨h60, hd⟩ := wt_ck_o hd
          refine hr_cast (pc := 71) (ci := 12) hx hb hts hown hK hW h60 rfl rfl q656 dX3_like_71 ?_
          obtain ⟨h61, hd⟩ := wt_ck_o hd
          obtain ⟨w62, hc63, hd⟩ := wt_bd_o hd
          obtain ⟨h64, hd⟩ := wt_ck_o hd
          refine kJ2_add (pc := 74) hx hb hml hown hts hC hW hS h61 hc63 hl.1 (Nat.le_of_ble_eq_true rfl) ⟨Nat.le_of_ble_eq_true rfl, Nat.le_of_ble_eq_true rfl⟩ ⟨h64.1, h64.2⟩ q602 dX3_like_74 (fun H locs hW hS => ?_)
          refine lv_pop (pc := 77) hx hb dX3_like_77 rfl ?_
          obtain ⟨n65, en65, hd⟩ := wt_lt_o hd
          refine lv_iinc (pc := 78) (k := 2) (v := n65) (lv' := [(2, .int n65), (0, .ref o_), (1, .ref (τ.2))]) hx hb dX3_like_78 hl rfl en65.symm (by decide) rfl (fun ls hl => ?_)
          refine lv_goto (pc := 81) (tgt := 48) hx hb dX3_like_81 (by decide) ?_
          exact ih41 _ (wt_again hd hk40) _ _ _ hW hS (lv_sub hl [1, 2, 0] rfl)
    obtain ⟨k43, hL37⟩ := wt_whC_o hL37
    exact hI44 k43 _ hL37 _ _ _ hW hS (lv_sub hl [1, 2, 0] rfl)
  have hI13 : ∀ (k12 : Nat) (v4 : Int32 × HP × Nat × Nat), wt_wh (bX3_like_1 τ o_) k12 v4 = some w5 → ∀ (H : Heap) (locs : List Loc) (ls : Array Slot), Hw G A v4.2.1 H → va_S A s_.heap H locs → lv_has ls 3 [(0, .ref o_), (1, .ref (τ.2)), (2, .int v4.1)] → W p_ l e_ (headSpec (ws_ yX3_like cX3_like 3 (some (.object "WoolThreads$State"))) ({ frames := 7, cells := 30, slots := 800, locals := 163 })).room s_ m_ ([.ref o_] : List Value).toArray below_ meth_ c_ H locs v4.2.2.1 v4.2.2.2 (MQ below_ (hQr G out_.1 out_.2 A) ([.ref o_] : List Value).toArray s_ 30 800 A) (F0 m_ 10 ls []) := by
    intro k12
    induction k12 with
    | zero => intro v4 hd; exact absurd hd wt_wh_z
    | succ k12 ih10 =>
      intro v4 hd
      intro H locs ls hW hS hl
      obtain ⟨r11, hd, hk9⟩ := wt_wh_o hd
      unfold bX3_like_1 at hd
      refine lv_iload_n (pc := 10) hx hb dX3_like_10 rfl (lv_at hl 2 rfl) ?_
      refine lv_aload_n (pc := 11) hx hb dX3_like_11 rfl (lv_at hl 0 rfl) ?_
      obtain ⟨ad14, h15, hd⟩ := wt_bd_o hd
      refine hr_get (pc := 12) hx hb hts hown hK hW (hgA_o h15) hf_2_0 (fun _ h => h) q513 dX3_like_12 ?_
      obtain ⟨h16, hd⟩ := wt_ck_o hd
      obtain ⟨w17, hc18, hd⟩ := wt_bd_o hd
      obtain ⟨h19, hd⟩ := wt_ck_o hd
      refine kJ2_size (pc := 15) hx hb hml hown hts hC hW hS h16 hc18 hl.1 (Nat.le_of_ble_eq_true rfl) ⟨Nat.le_of_ble_eq_true rfl, Nat.le_of_ble_eq_true rfl⟩ ⟨h19.1, h19.2⟩ q583 dX3_like_15 (fun H locs hW hS => ?_)
      refine lv_icmp_ge (pc := 18) (tgt := 46) hx hb dX3_like_18 (by decide) (fun c20 => ?_) (fun c20 => ?_)
      · have hd := wt_it hd c20
        exact hX8 (v4.2.1, v4.2.2.1, v4.2.2.2) (wt_exit hd hk9) _ _ _ hW hS (lv_sub hl [0, 1] rfl)
      · have hd := wt_if hd c20
        refine lv_aload_n (pc := 21) hx hb dX3_like_21 rfl (lv_at hl 1 rfl) ?_
        obtain ⟨ad21, h22, hd⟩ := wt_bd_o hd
        refine hr_get (pc := 22) hx hb hts hown hK hW (hgA_o h22) hf_2_0 (fun _ h => h) q513 dX3_like_22 ?_
        refine lv_aload_n (pc := 25) hx hb dX3_like_25 rfl (lv_at hl 0 rfl) ?_
        obtain ⟨ad23, h24, hd⟩ := wt_bd_o hd
        refine hr_get (pc := 26) hx hb hts hown hK hW (hgA_o h24) hf_2_0 (fun _ h => h) q513 dX3_like_26 ?_
        refine lv_iload_n (pc := 29) hx hb dX3_like_29 rfl (lv_at hl 2 rfl) ?_
        obtain ⟨h25, hd⟩ := wt_ck_o hd
        obtain ⟨w26, hc27, hd⟩ := wt_bd_o hd
        obtain ⟨h28, hd⟩ := wt_ck_o hd
        refine kJ2_get (pc := 30) hx hb hml hown hts hC hW hS h25 hc27 hl.1 (Nat.le_of_ble_eq_true rfl) ⟨Nat.le_of_ble_eq_true rfl, Nat.le_of_ble_eq_true rfl⟩ ⟨h28.1, h28.2⟩ q587 dX3_like_30 (fun H locs hW hS => ?_)
        obtain ⟨h29, hd⟩ := wt_ck_o hd
        refine hr_cast (pc := 33) (ci := 10) hx hb hts hown hK hW h29 rfl rfl q601 dX3_like_33 ?_
        obtain ⟨h30, hd⟩ := wt_ck_o hd
        obtain ⟨w31, hc32, hd⟩ := wt_bd_o hd
        obtain ⟨h33, hd⟩ := wt_ck_o hd
        refine kJ2_add (pc := 36) hx hb hml hown hts hC hW hS h30 hc32 hl.1 (Nat.le_of_ble_eq_true rfl) ⟨Nat.le_of_ble_eq_true rfl, Nat.le_of_ble_eq_true rfl⟩ ⟨h33.1, h33.2⟩ q602 dX3_like_36 (fun H locs hW hS => ?_)
        refine lv_pop (pc := 39) hx hb dX3_like_39 rfl ?_
        obtain ⟨n34, en34, hd⟩ := wt_lt_o hd
        refine lv_iinc (pc := 40) (k := 2) (v := n34) (lv' := [(2, .int n34), (0, .ref o_), (1, .ref (τ.2))]) hx hb dX3_like_40 hl rfl en34.symm (by decide) rfl (fun ls hl => ?_)
        refine lv_goto (pc := 43) (tgt := 10) hx hb dX3_like_43 (by decide) ?_
        exact ih10 _ (wt_again hd hk9) _ _ _ hW hS (lv_sub hl [1, 2, 0] rfl)
  obtain ⟨k12, hL6⟩ := wt_whC_o hL6
  exact hI13 k12 _ hL6 _ _ _ hW hS (lv_sub hl [2, 1, 0] rfl)
theorem kX3_like {p : Program} {l : Launch} {e : Env} {R : Room} {s : State} {m : MethodId} {args : Array Value} {below : List Frame} {meth : Method} {c : Code} {H : Heap} {locs : List Loc} {cells slots : Nat} {Q : State → Prop} {cc : ByteArray} {pc : Nat} {ls : Array Slot} {rest : List Value} {nL : Nat} {own : String} {index : Nat} {G : HG} {A : Nat → Prop} {τ : HP} {o_ : Nat} {out_ : Nat × HP} (hx : p.tables.exec = Jvm.exec) (hb : c.code = cc) (hml : c.maxLocals = nL) (hown : s.vm.findClass own = some m.cls) (hts : ∀ w ∈ lw_all, w.before args s = true) (hC : Hcx G A s) (hW : Hw G A τ H) (hS : va_S A s.heap H locs) (hrc : hcl τ o_ = some 2) (hd : eX3_like τ o_ = some out_) (hsz : ls.size = nL) (hrm : (rest.map fun v => v.category).sum ≤ 8) (hR : 8 ≤ R.frames ∧ 185 ≤ R.locals) (hcs : (cells + 30) ≤ R.cells ∧ (slots + 800) ≤ R.slots) (hlk : Cond.methodLink own index yX3_like ∈ lw_all) (hdg : decode cc pc = .ok (.invokevirtual index, 3)) (kk : ∀ (H1 : Heap) (locs1 : List Loc), Hw G A out_.2 H1 → va_S A s.heap H1 locs1 → W p l e R s m args below meth c H1 locs1 (cells + 30) (slots + 800) Q (F0 m (pc + 3) ls (.ref out_.1 :: rest))) : W p l e R s m args below meth c H locs cells slots Q (F0 m pc ls (.ref o_ :: rest)) := by
  refine va_callr (va_runV (As := []) (rest := rest) ⟨hx, hb, hml, hown, hts⟩ (wX3_like l hd) (cwV 0 hts (lw_V hlk q578 q579 q68 q580) rfl rfl rfl (by decide +kernel) hR) (hr_preV hC hW hS hrc rfl rfl) rfl rfl hsz rfl (lv_room hrm) hdg hcs) hS (fun _ _ h => h) (fun _ h => h) (fun u ra t H1 locs1 ht hvm hp hB hz hk hS1 => ?_)
  have hp : ra = out_.1 := hB.1
  subst hp
  have hW1 : Hw G A out_.2 t.heap := hB.2
  rw [ht] at hW1
  exact kk H1 locs1 hW1 hS1
noncomputable def bX3_seatsOf_1 (τ : HP) (o_ : Nat) (a0 : Int32) (v1 : Int32 × Int32) : Option ((Int32 × Int32) ⊕ (Int32)) :=
  wt_bd (hgI τ o_ [2] 3) fun f11 => if f11 ≤ v1.2 then (some (.inr v1.1)) else (wt_bd (hgA τ o_ [2] 2) fun ad14 => wt_bd (haI τ ad14 0) fun z16 => wt_ck (vp_in v1.2 z16.1) <| if ((z16.2 v1.2.toNatClampNeg) &&& a0) = a0 then (wt_lt ((v1.1 + (1 : Int32))) fun n22 => wt_lt (v1.2 + (1 : Int32)) fun n23 => some (.inl (n22, n23))) else (wt_lt ((v1.1 + (0 : Int32))) fun n20 => wt_lt (v1.2 + (1 : Int32)) fun n21 => some (.inl (n20, n21))))
noncomputable def eX3_seatsOf (τ : HP) (o_ : Nat) (a0 : Int32) : Option (Int32) :=
  wt_bd (wt_whC (bX3_seatsOf_1 τ o_ a0) ((0 : Int32), (0 : Int32))) fun w2 => some w2
set_option maxHeartbeats 4000000 in
theorem wX3_seatsOf (l : Launch) {G : HG} {A : Nat → Prop} {τ : HP} {o_ : Nat} {a0 : Int32} {out_ : Int32} (hd : eX3_seatsOf τ o_ a0 = some out_) : Met l yX3_seatsOf (ws_ yX3_seatsOf cX3_seatsOf 4 (some .int)) ({ frames := 0, cells := 0, slots := 0, locals := 0 }) (hPc G A τ [.ref o_, .int a0]) (hQi G out_ τ A) 0 0 A := by
  refine Met.ofW (cc := cX3_seatsOf) (maxL := 4) (ret := (some .int)) (by decide) rfl ?_
  intro p_ e_ s_ m_ args_ below_ meth_ c_ s₁_ B hml hv
  obtain ⟨rfl, hW, hC⟩ := hv
  have hx := B.exec
  have hb := B.bytes
  have hr := B.returns
  have hts := atoms_spec (ws := (ws_ yX3_seatsOf cX3_seatsOf 4 (some .int))) B.pre
  have hts : ∀ w ∈ lw_all, w.before _ s_ = true := fun w h => hts w (List.mem_cons_of_mem _ h)
  have hown : s_.vm.findClass RX3 = some m_.cls := findClass_of_methodNamed B.named
  have hlocks := B.notSynchronized
  have hK := hC.1
  have hT := hC.2.1
  have hL := hC.2.2.1
  have hZ := hC.2.2.2.2.1
  have hA := hC.2.2.2.2.2
  have hS : va_S A s_.heap s_.heap [] := va_S.rf
  have hl := lv_entry ([.ref o_, .int a0]) (n := 4) (Nat.le_of_ble_eq_true rfl)
  rw [lg_entry_eq]
  generalize (lg_sl ([.ref o_, .int a0]) ++ List.replicate (4 - (lg_sl ([.ref o_, .int a0])).length) Slot.unset).toArray = ls at hl ⊢
  have hl : lv_has ls 4 [(0, .ref o_), (1, .int a0)] := hl
  unfold eX3_seatsOf at hd
  refine lv_iconst (pc := 0) (v := 0) hx hb dX3_seatsOf_0 (by decide) ?_
  refine lv_istore_n (pc := 1) (lv' := [(2, .int (0 : Int32)), (0, .ref o_), (1, .int a0)]) hx hb dX3_seatsOf_1 rfl hl (by decide) rfl (fun ls hl => ?_)
  refine lv_iconst (pc := 2) (v := 0) hx hb dX3_seatsOf_2 (by decide) ?_
  refine lv_istore_n (pc := 3) (lv' := [(3, .int (0 : Int32)), (2, .int (0 : Int32)), (0, .ref o_), (1, .int a0)]) hx hb dX3_seatsOf_3 rfl hl (by decide) rfl (fun ls hl => ?_)
  obtain ⟨w2, hL3, hq4⟩ := wt_bd_o hd
  have hX5 : ∀ w2_ : Int32, w2_ = w2 → ∀ (H : Heap) (locs : List Loc) (ls : Array Slot), Hw G A τ H → va_S A s_.heap H locs → lv_has ls 4 [(2, .int w2_)] → W p_ l e_ (headSpec (ws_ yX3_seatsOf cX3_seatsOf 4 (some .int)) ({ frames := 0, cells := 0, slots := 0, locals := 0 })).room s_ m_ ([.ref o_, .int a0] : List Value).toArray below_ meth_ c_ H locs 0 0 (MQ below_ (hQi G out_ τ A) ([.ref o_, .int a0] : List Value).toArray s_ 0 0 A) (F0 m_ 38 ls []) := by
    intro w2_ hw_
    have hd := hq4
    subst hw_
    clear hL3 hq4
    intro H locs ls hW hS hl
    refine lv_iload_n (pc := 38) hx hb dX3_seatsOf_38 rfl (lv_at hl 0 rfl) ?_
    exact hr_iret hx hb hr rfl hlocks (Option.some.inj hd) rfl hW hS dX3_seatsOf_39 (Nat.le_of_ble_eq_true rfl) (Nat.le_of_ble_eq_true rfl)
  have hI10 : ∀ (k9 : Nat) (v1 : Int32 × Int32), wt_wh (bX3_seatsOf_1 τ o_ a0) k9 v1 = some w2 → ∀ (H : Heap) (locs : List Loc) (ls : Array Slot), Hw G A τ H → va_S A s_.heap H locs → lv_has ls 4 [(0, .ref o_), (1, .int a0), (2, .int v1.1), (3, .int v1.2)] → W p_ l e_ (headSpec (ws_ yX3_seatsOf cX3_seatsOf 4 (some .int)) ({ frames := 0, cells := 0, slots := 0, locals := 0 })).room s_ m_ ([.ref o_, .int a0] : List Value).toArray below_ meth_ c_ H locs 0 0 (MQ below_ (hQi G out_ τ A) ([.ref o_, .int a0] : List Value).toArray s_ 0 0 A) (F0 m_ 4 ls []) := by
    intro k9
    induction k9 with
    | zero => intro v1 hd; exact absurd hd wt_wh_z
    | succ k9 ih7 =>
      intro v1 hd
      intro H locs ls hW hS hl
      obtain ⟨r8, hd, hk6⟩ := wt_wh_o hd
      unfold bX3_seatsOf_1 at hd
      refine lv_iload_n (pc := 4) hx hb dX3_seatsOf_4 rfl (lv_at hl 3 rfl) ?_
      refine lv_aload_n (pc := 5) hx hb dX3_seatsOf_5 rfl (lv_at hl 0 rfl) ?_
      obtain ⟨f11, h12, hd⟩ := wt_bd_o hd
      refine hr_get (pc := 6) hx hb hts hown hK hW (hgI_o h12) hf_2_3 (fun _ h => h) q520 dX3_seatsOf_6 ?_
      refine lv_icmp_ge (pc := 9) (tgt := 38) hx hb dX3_seatsOf_9 (by decide) (fun c13 => ?_) (fun c13 => ?_)
      · have hd := wt_it hd c13
        exact hX5 v1.1 (wt_exit hd hk6) _ _ _ hW hS (lv_sub hl [2] rfl)
      · have hd := wt_if hd c13
        refine lv_iload_n (pc := 12) hx hb dX3_seatsOf_12 rfl (lv_at hl 2 rfl) ?_
        refine lv_aload_n (pc := 13) hx hb dX3_seatsOf_13 rfl (lv_at hl 0 rfl) ?_
        obtain ⟨ad14, h15, hd⟩ := wt_bd_o hd
        refine hr_get (pc := 14) hx hb hts hown hK hW (hgA_o h15) hf_2_2 (fun _ h => h) q518 dX3_seatsOf_14 ?_
        refine lv_iload_n (pc := 17) hx hb dX3_seatsOf_17 rfl (lv_at hl 3 rfl) ?_
        obtain ⟨z16, h17, hd⟩ := wt_bd_o hd
        obtain ⟨h18, hd⟩ := wt_ck_o hd
        refine hr_iald (pc := 18) hx hb hK hW h17 h18 dX3_seatsOf_18 ?_
        refine lv_iload_n (pc := 19) hx hb dX3_seatsOf_19 rfl (lv_at hl 1 rfl) ?_
        refine lv_iand (pc := 20) hx hb dX3_seatsOf_20 ?_
        refine lv_iload_n (pc := 21) hx hb dX3_seatsOf_21 rfl (lv_at hl 1 rfl) ?_
        refine lv_icmp_ne (pc := 22) (tgt := 29) hx hb dX3_seatsOf_22 (by decide) (fun c19 => ?_) (fun c19 => ?_)
        · have hd := wt_if hd c19
          refine lv_iconst (pc := 29) (v := 0) hx hb dX3_seatsOf_29 (by decide) ?_
          refine lv_iadd (pc := 30) hx hb dX3_seatsOf_30 ?_
          obtain ⟨n20, en20, hd⟩ := wt_lt_o hd
          refine lv_tope en20 ?_
          refine lv_istore_n (pc := 31) (lv' := [(2, .int n20), (0, .ref o_), (1, .int a0), (3, .int v1.2)]) hx hb dX3_seatsOf_31 rfl hl (by decide) rfl (fun ls hl => ?_)
          obtain ⟨n21, en21, hd⟩ := wt_lt_o hd
          refine lv_iinc (pc := 32) (k := 3) (v := n21) (lv' := [(3, .int n21), (2, .int n20), (0, .ref o_), (1, .int a0)]) hx hb dX3_seatsOf_32 hl rfl en21.symm (by decide) rfl (fun ls hl => ?_)
          refine lv_goto (pc := 35) (tgt := 4) hx hb dX3_seatsOf_35 (by decide) ?_
          exact ih7 _ (wt_again hd hk6) _ _ _ hW hS (lv_sub hl [2, 3, 1, 0] rfl)
        · have hd := wt_it hd c19
          refine lv_iconst (pc := 25) (v := 1) hx hb dX3_seatsOf_25 (by decide) ?_
          refine lv_goto (pc := 26) (tgt := 30) hx hb dX3_seatsOf_26 (by decide) ?_
          refine lv_iadd (pc := 30) hx hb dX3_seatsOf_30 ?_
          obtain ⟨n22, en22, hd⟩ := wt_lt_o hd
          refine lv_tope en22 ?_
          refine lv_istore_n (pc := 31) (lv' := [(2, .int n22), (0, .ref o_), (1, .int a0), (3, .int v1.2)]) hx hb dX3_seatsOf_31 rfl hl (by decide) rfl (fun ls hl => ?_)
          obtain ⟨n23, en23, hd⟩ := wt_lt_o hd
          refine lv_iinc (pc := 32) (k := 3) (v := n23) (lv' := [(3, .int n23), (2, .int n22), (0, .ref o_), (1, .int a0)]) hx hb dX3_seatsOf_32 hl rfl en23.symm (by decide) rfl (fun ls hl => ?_)
          refine lv_goto (pc := 35) (tgt := 4) hx hb dX3_seatsOf_35 (by decide) ?_
          exact ih7 _ (wt_again hd hk6) _ _ _ hW hS (lv_sub hl [2, 3, 1, 0] rfl)
  obtain ⟨k9, hL3⟩ := wt_whC_o hL3
  exact hI10 k9 _ hL3 _ _ _ hW hS (lv_sub hl [2, 3, 1, 0] rfl)
theorem kX3_seatsOf {p : Program} {l : Launch} {e : Env} {R : Room} {s : State} {m : MethodId} {args : Array Value} {below : List Frame} {meth : Method} {c : Code} {H : Heap} {locs : List Loc} {cells slots : Nat} {Q : State → Prop} {cc : ByteArray} {pc : Nat} {ls : Array Slot} {rest : List Value} {nL : Nat} {own : String} {index : Nat} {G : HG} {A : Nat → Prop} {τ : HP} {o_ : Nat} {a0 : Int32} {out_ : Int32} (hx : p.tables.exec = Jvm.exec) (hb : c.code = cc) (hml : c.maxLocals = nL) (hown : s.vm.findClass own = some m.cls) (hts : ∀ w ∈ lw_all, w.before args s = true) (hC : Hcx G A s) (hW : Hw G A τ H) (hS : va_S A s.heap H locs) (hrc : hcl τ o_ = some 2) (hd : eX3_seatsOf τ o_ a0 = some out_) (hsz : ls.size = nL) (hrm : (rest.map fun v => v.category).sum ≤ 8) (hR : 1 ≤ R.frames ∧ 23 ≤ R.locals) (hcs : cells ≤ R.cells ∧ slots ≤ R.slots) (hlk : Cond.methodLink own index yX3_seatsOf ∈ lw_all) (hdg : decode cc pc = .ok (.invokevirtual index, 3)) (kk : ∀ (H1 : Heap) (locs1 : List Loc), Hw G A τ H1 → va_S A s.heap H1 locs1 → W p l e R s m args below meth c H1 locs1 cells slots Q (F0 m (pc + 3) ls (.int out_ :: rest))) : W p l e R s m args below meth c H locs cells slots Q (F0 m pc ls (.int a0 :: .ref o_ :: rest)) := by
  refine va_calli (va_runV (As := [.int a0]) (rest := rest) ⟨hx, hb, hml, hown, hts⟩ (wX3_seatsOf l hd) (cwV 1 hts (lw_V hlk q1440 q1441 q68 q1442) rfl rfl rfl (by decide +kernel) hR) (hr_preV hC hW hS hrc rfl rfl) rfl rfl hsz rfl (lv_room hrm) hdg hcs) hS (fun _ _ h => h) (fun _ h => h) (fun r u t H1 locs1 ht hvm hp hB hz hk hS1 => ?_)
  have hp : r = out_ := hp
  subst hp
  have hW1 : Hw G A τ t.heap := hB
  rw [ht] at hW1
  exact kk H1 locs1 hW1 hS1
