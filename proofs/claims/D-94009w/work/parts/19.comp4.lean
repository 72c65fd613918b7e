/-! strings (by gen/comp.py) -/
set_option maxRecDepth 100000
theorem hf_14_0 : hfB [14] 0 "java/lang/AbstractStringBuilder" "value" "[B" false = true := by decide +kernel
theorem hf_14_1 : hfB [14] 1 "java/lang/AbstractStringBuilder" "coder" "B" false = true := by decide +kernel
theorem hf_14_3 : hfB [14] 3 "java/lang/AbstractStringBuilder" "count" "I" false = true := by decide +kernel
theorem hf_15_1 : hfB [15] 1 "java/lang/String" "coder" "B" true = true := by decide +kernel
theorem hf_15_0 : hfB [15] 0 "java/lang/String" "value" "[B" true = true := by decide +kernel
theorem hf_16_1 : hfB [16] 1 "java/lang/String" "coder" "B" true = true := by decide +kernel
theorem hf_16_0 : hfB [16] 0 "java/lang/String" "value" "[B" true = true := by decide +kernel
theorem hf_15_2 : hfB [15] 2 "java/lang/String" "hash" "I" false = true := by decide +kernel
theorem hf_15_3 : hfB [15] 3 "java/lang/String" "hashIsZero" "Z" false = true := by decide +kernel
noncomputable def eJ7_init (τ : HP) (o_ : Nat) (a0 : Int32) : Option (HP) :=
  if (1 : Int32) = 0 then (none) else (wt_ck (¬ a0 < 0 ∧ a0.toNatClampNeg ≤ 16) <| wt_lt (hnew τ (.inl (1, a0.toNatClampNeg, .inl (fun _ => 0)))) fun τ3 => wt_bd (hp τ3 o_ [14] 0 (.ref (τ.2))) fun τ4 => wt_bd (hp τ4 o_ [14] 1 (.int (0 : Int32))) fun τ6 => some (τ6))
set_option maxHeartbeats 4000000 in
theorem wJ7_init (l : Launch) {G : HG} {A : Nat → Prop} {τ : HP} {o_ : Nat} {a0 : Int32} {out_ : HP} (hd : eJ7_init τ o_ a0 = some out_) : Met l yJ7_init (ws_ yJ7_init cJ7_init 2 none) ({ frames := 1, cells := 1, slots := 16, locals := 32 }) (hPc G A τ [.ref o_, .int a0]) (hQv G out_ A) 1 16 A := by
  refine Met.ofW (cc := cJ7_init) (maxL := 2) (ret := none) (by decide) rfl ?_
  intro p_ e_ s_ m_ args_ below_ meth_ c_ s₁_ B hml hv
  obtain ⟨rfl, hW, hC⟩ := hv
  have hx := B.exec
  have hb := B.bytes
  have hr := B.returns
  have hts := atoms_spec (ws := (ws_ yJ7_init cJ7_init 2 none)) B.pre
  have hts : ∀ w ∈ lw_all, w.before _ s_ = true := fun w h => hts w (List.mem_cons_of_mem _ h)
  have hown : s_.vm.findClass RJ7 = some m_.cls := findClass_of_methodNamed B.named
  have hlocks := B.notSynchronized
  have hK := hC.1
  have hT := hC.2.1
  have hL := hC.2.2.1
  have hZ := hC.2.2.2.2.1
  have hA := hC.2.2.2.2.2
  have hin2 : meth_.name = "<init>" := (name_of_methodNamed B.named B.method).1
  have hS : va_S A s_.heap s_.heap [] := va_S.rf
  have hl := lv_entry ([.ref o_, .int a0]) (n := 2) (Nat.le_of_ble_eq_true rfl)
  rw [lg_entry_eq]
  generalize (lg_sl ([.ref o_, .int a0]) ++ List.replicate (2 - (lg_sl ([.ref o_, .int a0])).length) Slot.unset).toArray = ls at hl ⊢
  have hl : lv_has ls 2 [(0, .ref o_), (1, .int a0)] := hl
  unfold eJ7_init at hd
  refine lv_aload_n (pc := 0) hx hb dJ7_init_0 rfl (lv_at hl 0 rfl) ?_
  refine W.objInit (g := F0 m_ 1 ls _) hx hb hown (hts _ q236) (hts _ q110) (hts _ q111) rfl (by rw [hml]; exact hl.1) rfl dJ7_init_1 (Nat.le_of_ble_eq_true rfl) (Nat.le_of_ble_eq_true rfl) ?_
  refine W.eq (g2 := F0 m_ 4 ls []) rfl ?_
  refine va_gets (pc := 4) hx hb hZ.1 hS hown (hts _ q237) (fun _ h => h) dJ7_init_4 ?_
  refine lv_if_eq (pc := 7) (tgt := 25) hx hb dJ7_init_7 (by decide) (fun c1 => ?_) (fun c1 => ?_)
  · have hd := wt_it hd c1
    exact absurd hd (by intro h; cases h)
  · have hd := wt_if hd c1
    refine lv_aload_n (pc := 10) hx hb dJ7_init_10 rfl (lv_at hl 0 rfl) ?_
    refine lv_iload_n (pc := 11) hx hb dJ7_init_11 rfl (lv_at hl 1 rfl) ?_
    obtain ⟨h2, hd⟩ := wt_ck_o hd
    obtain ⟨τ3, eτ3, hd⟩ := wt_lt_o hd
    refine hr_newB (pc := 12) (N := a0.toNatClampNeg) hx hb hts hK hW hS hA h2.1 rfl (Nat.le_trans h2.2 (by decide)) eτ3 (Nat.le_of_ble_eq_true rfl) (Nat.le_trans (Nat.add_le_add_left h2.2 _) (Nat.le_of_ble_eq_true rfl)) dJ7_init_12 (fun H hW hS => ?_)
    refine W.widen (k := 1) (n := 16) (Nat.le_refl _) (Nat.add_le_add_left h2.2 _) ?_
    obtain ⟨τ4, h5, hd⟩ := wt_bd_o hd
    refine hr_put (pc := 14) (ty := (.array .byte)) hx hb hts hown hK hW hS h5 hf_14_0 (by decide +kernel) rfl rfl (fun _ h => h) q246 dJ7_init_14 (fun H locs hW hS => ?_)
    refine lv_aload_n (pc := 17) hx hb dJ7_init_17 rfl (lv_at hl 0 rfl) ?_
    refine lv_iconst (pc := 18) (v := 0) hx hb dJ7_init_18 (by decide) ?_
    obtain ⟨τ6, h7, hd⟩ := wt_bd_o hd
    refine hr_put (pc := 19) (ty := .byte) hx hb hts hown hK hW hS h7 hf_14_1 (by decide +kernel) rfl rfl (fun _ h => h) q247 dJ7_init_19 (fun H locs hW hS => ?_)
    refine lv_goto (pc := 22) (tgt := 38) hx hb dJ7_init_22 (by decide) ?_
    exact hr_vret hx hb hr hlocks (Option.some.inj hd) hW hS dJ7_init_38 (Nat.le_of_ble_eq_true rfl) (Nat.le_of_ble_eq_true rfl)
theorem kJ7_init {p : Program} {l : Launch} {e : Env} {R : Room} {s : State} {m : MethodId} {args : Array Value} {below : List Frame} {meth : Method} {c : Code} {H : Heap} {locs : List Loc} {cells slots : Nat} {Q : State → Prop} {cc : ByteArray} {pc : Nat} {ls : Array Slot} {rest : List Value} {nL : Nat} {own : String} {index : Nat} {G : HG} {A : Nat → Prop} {τ : HP} {o_ : Nat} {a0 : Int32} {out_ : HP} (hx : p.tables.exec = Jvm.exec) (hb : c.code = cc) (hml : c.maxLocals = nL) (hown : s.vm.findClass own = some m.cls) (hts : ∀ w ∈ lw_all, w.before args s = true) (hC : Hcx G A s) (hW : Hw G A τ H) (hS : va_S A s.heap H locs) (hd : eJ7_init τ o_ a0 = some out_) (hsz : ls.size = nL) (hrm : (rest.map fun v => v.category).sum ≤ 8) (hR : 2 ≤ R.frames ∧ 53 ≤ R.locals) (hcs : (cells + 1) ≤ R.cells ∧ (slots + 16) ≤ R.slots) (hlk : Cond.methodLink own index yJ7_init ∈ lw_all) (hdg : decode cc pc = .ok (.invokespecial index, 3)) (kk : ∀ (H1 : Heap) (locs1 : List Loc), Hw G A out_ H1 → va_S A s.heap H1 locs1 → W p l e R s m args below meth c H1 locs1 (cells + 1) (slots + 16) Q (F0 m (pc + 3) ls (rest))) : W p l e R s m args below meth c H locs cells slots Q (F0 m pc ls (.int a0 :: .ref o_ :: rest)) := by
  refine va_callv (va_runI (As := [.int a0]) (rest := rest) ⟨hx, hb, hml, hown, hts⟩ (wJ7_init l hd) (cwI 1 hts (lw_meth q235) rfl rfl rfl (hts _ q76) (hts _ hlk) (hts _ q234) rfl (by decide +kernel) hR) (hr_preS hC hW hS) rfl rfl hsz rfl (lv_room hrm) hdg hcs) hS (fun _ _ h => h) (fun _ h => h) (fun u t H1 locs1 ht hvm hp hB hz hk hS1 => ?_)
  have hW1 : Hw G A out_ t.heap := hB
  rw [ht] at hW1
  exact kk H1 locs1 hW1 hS1
noncomputable def eJ7_isLatin1 (τ : HP) (o_ : Nat) : Option (Int32) :=
  if (1 : Int32) = 0 then (some (0 : Int32)) else (wt_bd (hgI τ o_ [14] 1) fun f2 => if f2 = 0 then (some (1 : Int32)) else (some (0 : Int32)))
set_option maxHeartbeats 4000000 in
theorem wJ7_isLatin1 (l : Launch) {G : HG} {A : Nat → Prop} {τ : HP} {o_ : Nat} {out_ : Int32} (hd : eJ7_isLatin1 τ o_ = some out_) : Met l yJ7_isLatin1 (ws_ yJ7_isLatin1 cJ7_isLatin1 1 (some .boolean)) ({ frames := 0, cells := 0, slots := 0, locals := 0 }) (hPc G A τ [.ref o_]) (hQi G out_ τ A) 0 0 A := by
  refine Met.ofW (cc := cJ7_isLatin1) (maxL := 1) (ret := (some .boolean)) (by decide) rfl ?_
  intro p_ e_ s_ m_ args_ below_ meth_ c_ s₁_ B hml hv
  obtain ⟨rfl, hW, hC⟩ := hv
  have hx := B.exec
  have hb := B.bytes
  have hr := B.returns
  have hts := atoms_spec (ws := (ws_ yJ7_isLatin1 cJ7_isLatin1 1 (some .boolean))) B.pre
  have hts : ∀ w ∈ lw_all, w.before _ s_ = true := fun w h => hts w (List.mem_cons_of_mem _ h)
  have hown : s_.vm.findClass RJ7 = some m_.cls := findClass_of_methodNamed B.named
  have hlocks := B.notSynchronized
  have hK := hC.1
  have hT := hC.2.1
  have hL := hC.2.2.1
  have hZ := hC.2.2.2.2.1
  have hA := hC.2.2.2.2.2
  have hS : va_S A s_.heap s_.heap [] := va_S.rf
  have hl := lv_entry ([.ref o_]) (n := 1) (Nat.le_of_ble_eq_true rfl)
  rw [lg_entry_eq]
  generalize (lg_sl ([.ref o_]) ++ List.replicate (1 - (lg_sl ([.ref o_])).length) Slot.unset).toArray = ls at hl ⊢
  have hl : lv_has ls 1 [(0, .ref o_)] := hl
  unfold eJ7_isLatin1 at hd
  refine va_gets (pc := 0) hx hb hZ.1 hS hown (hts _ q237) (fun _ h => h) dJ7_isLatin1_0 ?_
  refine lv_if_eq (pc := 3) (tgt := 17) hx hb dJ7_isLatin1_3 (by decide) (fun c1 => ?_) (fun c1 => ?_)
  · have hd := wt_it hd c1
    refine lv_iconst (pc := 17) (v := 0) hx hb dJ7_isLatin1_17 (by decide) ?_
    exact hr_iret hx hb hr rfl hlocks (Option.some.inj hd) rfl hW hS dJ7_isLatin1_18 (Nat.le_of_ble_eq_true rfl) (Nat.le_of_ble_eq_true rfl)
  · have hd := wt_if hd c1
    refine lv_aload_n (pc := 6) hx hb dJ7_isLatin1_6 rfl (lv_at hl 0 rfl) ?_
    obtain ⟨f2, h3, hd⟩ := wt_bd_o hd
    refine hr_get (pc := 7) hx hb hts hown hK hW (hgI_o h3) hf_14_1 (fun _ h => h) q247 dJ7_isLatin1_7 ?_
    refine lv_if_ne (pc := 10) (tgt := 17) hx hb dJ7_isLatin1_10 (by decide) (fun c4 => ?_) (fun c4 => ?_)
    · have hd := wt_if hd c4
      refine lv_iconst (pc := 17) (v := 0) hx hb dJ7_isLatin1_17 (by decide) ?_
      exact hr_iret hx hb hr rfl hlocks (Option.some.inj hd) rfl hW hS dJ7_isLatin1_18 (Nat.le_of_ble_eq_true rfl) (Nat.le_of_ble_eq_true rfl)
    · have hd := wt_it hd c4
      refine lv_iconst (pc := 13) (v := 1) hx hb dJ7_isLatin1_13 (by decide) ?_
      refine lv_goto (pc := 14) (tgt := 18) hx hb dJ7_isLatin1_14 (by decide) ?_
      exact hr_iret hx hb hr rfl hlocks (Option.some.inj hd) rfl hW hS dJ7_isLatin1_18 (Nat.le_of_ble_eq_true rfl) (Nat.le_of_ble_eq_true rfl)

noncomputable def eJ7_ensureCapacityInternal (τ : HP) (o_ : Nat) (a0 : Int32) : Option (Unit) :=
  wt_bd (hgA τ o_ [14] 0) fun ad1 => wt_bd (hln τ ad1 1) fun m3 => wt_bd (hgI τ o_ [14] 1) fun f5 => wt_lt (((Int32.ofNat m3) >>> (f5 &&& 31))) fun n7 => if (a0 - n7) ≤ 0 then (some ()) else (none)
set_option maxHeartbeats 4000000 in
theorem wJ7_ensureCapacityInternal (l : Launch) {G : HG} {A : Nat → Prop} {τ : HP} {o_ : Nat} {a0 : Int32} {out_ : Unit} (hd : eJ7_ensureCapacityInternal τ o_ a0 = some out_) : Met l yJ7_ensureCapacityInternal (ws_ yJ7_ensureCapacityInternal cJ7_ensureCapacityInternal 3 none) ({ frames := 0, cells := 0, slots := 0, locals := 0 }) (hPc G A τ [.ref o_, .int a0]) (hQv G τ A) 0 0 A := by
  refine Met.ofW (cc := cJ7_ensureCapacityInternal) (maxL := 3) (ret := none) (by decide) rfl ?_
  intro p_ e_ s_ m_ args_ below_ meth_ c_ s₁_ B hml hv
  obtain ⟨rfl, hW, hC⟩ := hv
  have hx := B.exec
  have hb := B.bytes
  have hr := B.returns
  have hts := atoms_spec (ws := (ws_ yJ7_ensureCapacityInternal cJ7_ensureCapacityInternal 3 none)) B.pre
  have hts : ∀ w ∈ lw_all, w.before _ s_ = true := fun w h => hts w (List.mem_cons_of_mem _ h)
  have hown : s_.vm.findClass RJ7 = some m_.cls := findClass_of_methodNamed B.named
  have hlocks := B.notSynchronized
  have hK := hC.1
  have hT := hC.2.1
  have hL := hC.2.2.1
  have hZ := hC.2.2.2.2.1
  have hA := hC.2.2.2.2.2
  have hS : va_S A s_.heap s_.heap [] := va_S.rf
  have hl := lv_entry ([.ref o_, .int a0]) (n := 3) (Nat.le_of_ble_eq_true rfl)
  rw [lg_entry_eq]
  generalize (lg_sl ([.ref o_, .int a0]) ++ List.replicate (3 - (lg_sl ([.ref o_, .int a0])).length) Slot.unset).toArray = ls at hl ⊢
  have hl : lv_has ls 3 [(0, .ref o_), (1, .int a0)] := hl
  unfold eJ7_ensureCapacityInternal at hd
  refine lv_aload_n (pc := 0) hx hb dJ7_ensureCapacityInternal_0 rfl (lv_at hl 0 rfl) ?_
  obtain ⟨ad1, h2, hd⟩ := wt_bd_o hd
  refine hr_get (pc := 1) hx hb hts hown hK hW (hgA_o h2) hf_14_0 (fun _ h => h) q246 dJ7_ensureCapacityInternal_1 ?_
  obtain ⟨m3, h4, hd⟩ := wt_bd_o hd
  refine hr_alen (pc := 4) (t := 1) hx hb hK hW h4 rfl rfl dJ7_ensureCapacityInternal_4 ?_
  refine lv_aload_n (pc := 5) hx hb dJ7_ensureCapacityInternal_5 rfl (lv_at hl 0 rfl) ?_
  obtain ⟨f5, h6, hd⟩ := wt_bd_o hd
  refine hr_get (pc := 6) hx hb hts hown hK hW (hgI_o h6) hf_14_1 (fun _ h => h) q247 dJ7_ensureCapacityInternal_6 ?_
  refine lv_ishr (pc := 9) hx hb dJ7_ensureCapacityInternal_9 ?_
  obtain ⟨n7, en7, hd⟩ := wt_lt_o hd
  refine lv_tope en7 ?_
  refine lv_istore_n (pc := 10) (lv' := [(2, .int n7), (0, .ref o_), (1, .int a0)]) hx hb dJ7_ensureCapacityInternal_10 rfl hl (by decide) rfl (fun ls hl => ?_)
  refine lv_iload_n (pc := 11) hx hb dJ7_ensureCapacityInternal_11 rfl (lv_at hl 2 rfl) ?_
  refine lv_iload_n (pc := 12) hx hb dJ7_ensureCapacityInternal_12 rfl (lv_at hl 0 rfl) ?_
  refine lv_isub (pc := 13) hx hb dJ7_ensureCapacityInternal_13 ?_
  refine lv_if_le (pc := 14) (tgt := 38) hx hb dJ7_ensureCapacityInternal_14 (by decide) (fun c8 => ?_) (fun c8 => ?_)
  · have hd := wt_it hd c8
    exact hr_vret hx hb hr hlocks rfl hW hS dJ7_ensureCapacityInternal_38 (Nat.le_of_ble_eq_true rfl) (Nat.le_of_ble_eq_true rfl)
  · have hd := wt_if hd c8
    exact absurd hd (by intro h; cases h)

noncomputable def eJ15_canEncode (a0 : Int32) : Option (Int32) :=
  if (255 : Int32) < a0 then (some (0 : Int32)) else (some (1 : Int32))
set_option maxHeartbeats 4000000 in
theorem wJ15_canEncode (l : Launch) {G : HG} {A : Nat → Prop} {τ : HP} {a0 : Int32} {out_ : Int32} (hd : eJ15_canEncode a0 = some out_) : Met l yJ15_canEncode (ws_ yJ15_canEncode cJ15_canEncode 1 (some .boolean)) ({ frames := 0, cells := 0, slots := 0, locals := 0 }) (hPc G A τ [.int a0]) (hQi G out_ τ A) 0 0 A := by
  refine Met.ofW (cc := cJ15_canEncode) (maxL := 1) (ret := (some .boolean)) (by decide) rfl ?_
  intro p_ e_ s_ m_ args_ below_ meth_ c_ s₁_ B hml hv
  obtain ⟨rfl, hW, hC⟩ := hv
  have hx := B.exec
  have hb := B.bytes
  have hr := B.returns
  have hts := atoms_spec (ws := (ws_ yJ15_canEncode cJ15_canEncode 1 (some .boolean))) B.pre
  have hts : ∀ w ∈ lw_all, w.before _ s_ = true := fun w h => hts w (List.mem_cons_of_mem _ h)
  have hown : s_.vm.findClass RJ15 = some m_.cls := findClass_of_methodNamed B.named
  have hlocks := B.notSynchronized
  have hK := hC.1
  have hT := hC.2.1
  have hL := hC.2.2.1
  have hZ := hC.2.2.2.2.1
  have hA := hC.2.2.2.2.2
  have hS : va_S A s_.heap s_.heap [] := va_S.rf
  have hl := lv_entry ([.int a0]) (n := 1) (Nat.le_of_ble_eq_true rfl)
  rw [lg_entry_eq]
  generalize (lg_sl ([.int a0]) ++ List.replicate (1 - (lg_sl ([.int a0])).length) Slot.unset).toArray = ls at hl ⊢
  have hl : lv_has ls 1 [(0, .int a0)] := hl
  unfold eJ15_canEncode at hd
  refine lv_iload_n (pc := 0) hx hb dJ15_canEncode_0 rfl (lv_at hl 0 rfl) ?_
  refine lv_sipush (pc := 1) (v := 255) hx hb dJ15_canEncode_1 (by decide) ?_
  refine lv_icmp_gt (pc := 4) (tgt := 11) hx hb dJ15_canEncode_4 (by decide) (fun c1 => ?_) (fun c1 => ?_)
  · have hd := wt_it hd c1
    refine lv_iconst (pc := 11) (v := 0) hx hb dJ15_canEncode_11 (by decide) ?_
    exact hr_iret hx hb hr rfl hlocks (Option.some.inj hd) rfl hW hS dJ15_canEncode_12 (Nat.le_of_ble_eq_true rfl) (Nat.le_of_ble_eq_true rfl)
  · have hd := wt_if hd c1
    refine lv_iconst (pc := 7) (v := 1) hx hb dJ15_canEncode_7 (by decide) ?_
    refine lv_goto (pc := 8) (tgt := 12) hx hb dJ15_canEncode_8 (by decide) ?_
    exact hr_iret hx hb hr rfl hlocks (Option.some.inj hd) rfl hW hS dJ15_canEncode_12 (Nat.le_of_ble_eq_true rfl) (Nat.le_of_ble_eq_true rfl)
theorem kJ15_canEncode {p : Program} {l : Launch} {e : Env} {R : Room} {s : State} {m : MethodId} {args : Array Value} {below : List Frame} {meth : Method} {c : Code} {H : Heap} {locs : List Loc} {cells slots : Nat} {Q : State → Prop} {cc : ByteArray} {pc : Nat} {ls : Array Slot} {rest : List Value} {nL : Nat} {own : String} {index : Nat} {G : HG} {A : Nat → Prop} {τ : HP} {a0 : Int32} {out_ : Int32} (hx : p.tables.exec = Jvm.exec) (hb : c.code = cc) (hml : c.maxLocals = nL) (hown : s.vm.findClass own = some m.cls) (hts : ∀ w ∈ lw_all, w.before args s = true) (hC : Hcx G A s) (hW : Hw G A τ H) (hS : va_S A s.heap H locs) (hd : eJ15_canEncode a0 = some out_) (hsz : ls.size = nL) (hrm : (rest.map fun v => v.category).sum ≤ 8) (hR : 1 ≤ R.frames ∧ 20 ≤ R.locals) (hcs : cells ≤ R.cells ∧ slots ≤ R.slots) (hlk : Cond.methodLink own index yJ15_canEncode ∈ lw_all) (hdg : decode cc pc = .ok (.invokestatic index, 3)) (kk : ∀ (H1 : Heap) (locs1 : List Loc), Hw G A τ H1 → va_S A s.heap H1 locs1 → W p l e R s m args below meth c H1 locs1 cells slots Q (F0 m (pc + 3) ls (.int out_ :: rest))) : W p l e R s m args below meth c H locs cells slots Q (F0 m pc ls (.int a0 :: rest)) := by
  refine va_calli (va_runS (As := [.int a0]) (rest := rest) ⟨hx, hb, hml, hown, hts⟩ (wJ15_canEncode l hd) (va_cwS 1 hts (lw_S hlk q738 q85 q739) rfl rfl rfl (by decide +kernel) hR) (hr_preS hC hW hS) rfl rfl hsz rfl (lv_room hrm) hdg hcs) hS (fun _ _ h => h) (fun _ h => h) (fun r u t H1 locs1 ht hvm hp hB hz hk hS1 => ?_)
  have hp : r = out_ := hp
  subst hp
  have hW1 : Hw G A τ t.heap := hB
  rw [ht] at hW1
  exact kk H1 locs1 hW1 hS1
theorem kU_J7_ensureCapacityInternal_14 {p : Program} {l : Launch} {e : Env} {R : Room} {s : State} {m : MethodId} {args : Array Value} {below : List Frame} {meth : Method} {c : Code} {H : Heap} {locs : List Loc} {cells slots : Nat} {Q : State → Prop} {cc : ByteArray} {pc : Nat} {ls : Array Slot} {rest : List Value} {nL : Nat} {own : String} {index : Nat} {G : HG} {A : Nat → Prop} {τ : HP} {o_ : Nat} {a0 : Int32} {out_ : Unit} (hx : p.tables.exec = Jvm.exec) (hb : c.code = cc) (hml : c.maxLocals = nL) (hown : s.vm.findClass own = some m.cls) (hts : ∀ w ∈ lw_all, w.before args s = true) (hC : Hcx G A s) (hW : Hw G A τ H) (hS : va_S A s.heap H locs) (hrc : hcl τ o_ = some 14) (hd : eJ7_ensureCapacityInternal τ o_ a0 = some out_) (hsz : ls.size = nL) (hrm : (rest.map fun v => v.category).sum ≤ 8) (hR : 1 ≤ R.frames ∧ 22 ≤ R.locals) (hcs : cells ≤ R.cells ∧ slots ≤ R.slots) (hlk : Cond.methodLink own index ⟨"java/lang/AbstractStringBuilder", "ensureCapacityInternal", "(I)V"⟩ ∈ lw_all) (hdg : decode cc pc = .ok (.invokevirtual index, 3)) (kk : ∀ (H1 : Heap) (locs1 : List Loc), Hw G A τ H1 → va_S A s.heap H1 locs1 → W p l e R s m args below meth c H1 locs1 cells slots Q (F0 m (pc + 3) ls (rest))) : W p l e R s m args below meth c H locs cells slots Q (F0 m pc ls (.int a0 :: .ref o_ :: rest)) := by
  refine va_callv (va_runU (As := [.int a0]) (rest := rest) ⟨hx, hb, hml, hown, eci_ts hts hC.2.1⟩ (wJ7_ensureCapacityInternal l hd) (va_cwU (C := "java/lang/StringBuilder") (owner := "java/lang/AbstractStringBuilder") (x := ⟨"java/lang/AbstractStringBuilder", "ensureCapacityInternal", "(I)V"⟩) 1 (eci_ts hts hC.2.1) (lw_Ueci hlk) rfl rfl rfl rfl (by decide +kernel) hR) (hr_preV hC hW hS hrc rfl rfl) rfl rfl hsz rfl (lv_room hrm) hdg hcs) hS (fun _ _ h => h) (fun _ h => h) (fun u t H1 locs1 ht hvm hp hB hz hk hS1 => ?_)
  have hW1 : Hw G A τ t.heap := hB
  rw [ht] at hW1
  exact kk H1 locs1 hW1 hS1
theorem kU_J7_isLatin1_14 {p : Program} {l : Launch} {e : Env} {R : Room} {s : State} {m : MethodId} {args : Array Value} {below : List Frame} {meth : Method} {c : Code} {H : Heap} {locs : List Loc} {cells slots : Nat} {Q : State → Prop} {cc : ByteArray} {pc : Nat} {ls : Array Slot} {rest : List Value} {nL : Nat} {own : String} {index : Nat} {G : HG} {A : Nat → Prop} {τ : HP} {o_ : Nat} {out_ : Int32} (hx : p.tables.exec = Jvm.exec) (hb : c.code = cc) (hml : c.maxLocals = nL) (hown : s.vm.findClass own = some m.cls) (hts : ∀ w ∈ lw_all, w.before args s = true) (hC : Hcx G A s) (hW : Hw G A τ H) (hS : va_S A s.heap H locs) (hrc : hcl τ o_ = some 14) (hd : eJ7_isLatin1 τ o_ = some out_) (hsz : ls.size = nL) (hrm : (rest.map fun v => v.category).sum ≤ 8) (hR : 1 ≤ R.frames ∧ 20 ≤ R.locals) (hcs : cells ≤ R.cells ∧ slots ≤ R.slots) (hlk : Cond.methodLink own index ⟨"java/lang/AbstractStringBuilder", "isLatin1", "()Z"⟩ ∈ lw_all) (hdg : decode cc pc = .ok (.invokevirtual index, 3)) (kk : ∀ (H1 : Heap) (locs1 : List Loc), Hw G A τ H1 → va_S A s.heap H1 locs1 → W p l e R s m args below meth c H1 locs1 cells slots Q (F0 m (pc + 3) ls (.int out_ :: rest))) : W p l e R s m args below meth c H locs cells slots Q (F0 m pc ls (.ref o_ :: rest)) := by
  refine va_calli (va_runU (As := []) (rest := rest) ⟨hx, hb, hml, hown, hts⟩ (wJ7_isLatin1 l hd) (va_cwU (C := "java/lang/StringBuilder") (owner := "java/lang/AbstractStringBuilder") (x := ⟨"java/lang/AbstractStringBuilder", "isLatin1", "()Z"⟩) 0 hts (lw_U hlk q309 q310 q308 q76 q311) rfl rfl rfl rfl (by decide +kernel) hR) (hr_preV hC hW hS hrc rfl rfl) rfl rfl hsz rfl (lv_room hrm) hdg hcs) hS (fun _ _ h => h) (fun _ h => h) (fun r u t H1 locs1 ht hvm hp hB hz hk hS1 => ?_)
  have hp : r = out_ := hp
  subst hp
  have hW1 : Hw G A τ t.heap := hB
  rw [ht] at hW1
  exact kk H1 locs1 hW1 hS1
noncomputable def eJ7_append_3 (τ : HP) (o_ : Nat) (a0 : Int32) : Option (Nat × HP) :=
  wt_bd (hgI τ o_ [14] 3) fun f1 => wt_ck (hcl τ o_ = some 14) <| wt_bd (eJ7_ensureCapacityInternal τ o_ (f1 + (1 : Int32))) fun w4 => wt_ck (hcl τ o_ = some 14) <| wt_bd (eJ7_isLatin1 τ o_) fun w7 => wt_bd (if w7 = 0 then (some (.inl ())) else (wt_bd (eJ15_canEncode a0) fun w14 => if w14 = 0 then (some (.inl ())) else (wt_bd (hgA τ o_ [14] 0) fun ad17 => wt_bd (hgI τ o_ [14] 3) fun f19 => wt_bd (hp τ o_ [14] 3 (.int ((f19 + (1 : Int32))))) fun τ21 => wt_bd (haI τ21 ad17 1) fun z23 => wt_ck (vp_in f19 z23.1) <| wt_lt (hst τ21 ad17 (.inl (1, z23.1, .inl (upd z23.2 f19.toNatClampNeg (Int8.toInt32 (Int32.toInt8 (Int8.toInt32 (Int32.toInt8 a0)))))))) fun τ26 => some (.inr (o_, τ26))))) fun w9 => wt_rs w9 (fun w9 => none) (fun z_ => some z_)
set_option maxHeartbeats 4000000 in
theorem wJ7_append_3 (l : Launch) {G : HG} {A : Nat → Prop} {τ : HP} {o_ : Nat} {a0 : Int32} {out_ : Nat × HP} (hd : eJ7_append_3 τ o_ a0 = some out_) : Met l yJ7_append_3 (ws_ yJ7_append_3 cJ7_append_3 2 (some (.object "java/lang/AbstractStringBuilder"))) ({ frames := 1, cells := 0, slots := 0, locals := 22 }) (hPc G A τ [.ref o_, .int a0]) (hQr G out_.1 out_.2 A) 0 0 A := by
  refine Met.ofW (cc := cJ7_append_3) (maxL := 2) (ret := (some (.object "java/lang/AbstractStringBuilder"))) (by decide) rfl ?_
  intro p_ e_ s_ m_ args_ below_ meth_ c_ s₁_ B hml hv
  obtain ⟨rfl, hW, hC⟩ := hv
  have hx := B.exec
  have hb := B.bytes
  have hr := B.returns
  have hts := atoms_spec (ws := (ws_ yJ7_append_3 cJ7_append_3 2 (some (.object "java/lang/AbstractStringBuilder")))) B.pre
  have hts : ∀ w ∈ lw_all, w.before _ s_ = true := fun w h => hts w (List.mem_cons_of_mem _ h)
  have hown : s_.vm.findClass RJ7 = some m_.cls := findClass_of_methodNamed B.named
  have hlocks := B.notSynchronized
  have hK := hC.1
  have hT := hC.2.1
  have hL := hC.2.2.1
  have hZ := hC.2.2.2.2.1
  have hA := hC.2.2.2.2.2
  have hS : va_S A s_.heap s_.heap [] := va_S.rf
  have hl := lv_entry ([.ref o_, .int a0]) (n := 2) (Nat.le_of_ble_eq_true rfl)
  rw [lg_entry_eq]
  generalize (lg_sl ([.ref o_, .int a0]) ++ List.replicate (2 - (lg_sl ([.ref o_, .int a0])).length) Slot.unset).toArray = ls at hl ⊢
  have hl : lv_has ls 2 [(0, .ref o_), (1, .int a0)] := hl
  unfold eJ7_append_3 at hd
  refine lv_aload_n (pc := 0) hx hb dJ7_append_3_0 rfl (lv_at hl 0 rfl) ?_
  refine lv_aload_n (pc := 1) hx hb dJ7_append_3_1 rfl (lv_at hl 0 rfl) ?_
  obtain ⟨f1, h2, hd⟩ := wt_bd_o hd
  refine hr_get (pc := 2) hx hb hts hown hK hW (hgI_o h2) hf_14_3 (fun _ h => h) q249 dJ7_append_3_2 ?_
  refine lv_iconst (pc := 5) (v := 1) hx hb dJ7_append_3_5 (by decide) ?_
  refine lv_iadd (pc := 6) hx hb dJ7_append_3_6 ?_
  obtain ⟨h3, hd⟩ := wt_ck_o hd
  obtain ⟨w4, hc5, hd⟩ := wt_bd_o hd
  refine kU_J7_ensureCapacityInternal_14 (pc := 7) hx hb hml hown hts hC hW hS h3 hc5 hl.1 (Nat.le_of_ble_eq_true rfl) ⟨Nat.le_of_ble_eq_true rfl, Nat.le_of_ble_eq_true rfl⟩ ⟨Nat.le_of_ble_eq_true rfl, Nat.le_of_ble_eq_true rfl⟩ q272 dJ7_append_3_7 (fun H locs hW hS => ?_)
  refine lv_aload_n (pc := 10) hx hb dJ7_append_3_10 rfl (lv_at hl 0 rfl) ?_
  obtain ⟨h6, hd⟩ := wt_ck_o hd
  obtain ⟨w7, hc8, hd⟩ := wt_bd_o hd
  refine kU_J7_isLatin1_14 (pc := 11) hx hb hml hown hts hC hW hS h6 hc8 hl.1 (Nat.le_of_ble_eq_true rfl) ⟨Nat.le_of_ble_eq_true rfl, Nat.le_of_ble_eq_true rfl⟩ ⟨Nat.le_of_ble_eq_true rfl, Nat.le_of_ble_eq_true rfl⟩ q307 dJ7_append_3_11 (fun H locs hW hS => ?_)
  obtain ⟨w9, hj10, hq11⟩ := wt_bd_o hd
  have hX12 : ∀ w9_ : Unit, (Sum.inl w9_ : (Unit) ⊕ _) = w9 → ∀ (H : Heap) (locs : List Loc) (ls : Array Slot), Hw G A τ H → va_S A s_.heap H locs → lv_has ls 2 [(0, .ref o_), (1, .int a0)] → W p_ l e_ (headSpec (ws_ yJ7_append_3 cJ7_append_3 2 (some (.object "java/lang/AbstractStringBuilder"))) ({ frames := 1, cells := 0, slots := 0, locals := 22 })).room s_ m_ ([.ref o_, .int a0] : List Value).toArray below_ meth_ c_ H locs 0 0 (MQ below_ (hQr G out_.1 out_.2 A) ([.ref o_, .int a0] : List Value).toArray s_ 0 0 A) (F0 m_ 45 ls []) := by
    intro w9_ hw_
    have hd := wt_rs_l hw_ hq11
    clear hj10 hq11
    intro H locs ls hW hS hl
    exact absurd hd (by intro h; cases h)
  have hd := hj10
  refine lv_if_eq (pc := 14) (tgt := 45) hx hb dJ7_append_3_14 (by decide) (fun c13 => ?_) (fun c13 => ?_)
  · have hd := wt_it hd c13
    exact hX12 () (Option.some.inj hd) _ _ _ hW hS hl
  · have hd := wt_if hd c13
    refine lv_iload_n (pc := 17) hx hb dJ7_append_3_17 rfl (lv_at hl 1 rfl) ?_
    obtain ⟨w14, hc15, hd⟩ := wt_bd_o hd
    refine kJ15_canEncode (pc := 18) hx hb hml hown hts hC hW hS hc15 hl.1 (Nat.le_of_ble_eq_true rfl) ⟨Nat.le_of_ble_eq_true rfl, Nat.le_of_ble_eq_true rfl⟩ ⟨Nat.le_of_ble_eq_true rfl, Nat.le_of_ble_eq_true rfl⟩ q737 dJ7_append_3_18 (fun H locs hW hS => ?_)
    refine lv_if_eq (pc := 21) (tgt := 45) hx hb dJ7_append_3_21 (by decide) (fun c16 => ?_) (fun c16 => ?_)
    · have hd := wt_it hd c16
      exact hX12 () (Option.some.inj hd) _ _ _ hW hS hl
    · have hd := wt_if hd c16
      refine lv_aload_n (pc := 24) hx hb dJ7_append_3_24 rfl (lv_at hl 0 rfl) ?_
      obtain ⟨ad17, h18, hd⟩ := wt_bd_o hd
      refine hr_get (pc := 25) hx hb hts hown hK hW (hgA_o h18) hf_14_0 (fun _ h => h) q246 dJ7_append_3_25 ?_
      refine lv_aload_n (pc := 28) hx hb dJ7_append_3_28 rfl (lv_at hl 0 rfl) ?_
      refine lv_dup (pc := 29) hx hb dJ7_append_3_29 rfl ?_
      obtain ⟨f19, h20, hd⟩ := wt_bd_o hd
      refine hr_get (pc := 30) hx hb hts hown hK hW (hgI_o h20) hf_14_3 (fun _ h => h) q249 dJ7_append_3_30 ?_
      refine lv_dup_x1 (pc := 33) hx hb dJ7_append_3_33 rfl rfl ?_
      refine lv_iconst (pc := 34) (v := 1) hx hb dJ7_append_3_34 (by decide) ?_
      refine lv_iadd (pc := 35) hx hb dJ7_append_3_35 ?_
      obtain ⟨τ21, h22, hd⟩ := wt_bd_o hd
      refine hr_put (pc := 36) (ty := .int) hx hb hts hown hK hW hS h22 hf_14_3 (by decide +kernel) rfl rfl (fun _ h => h) q249 dJ7_append_3_36 (fun H locs hW hS => ?_)
      refine lv_iload_n (pc := 39) hx hb dJ7_append_3_39 rfl (lv_at hl 1 rfl) ?_
      refine lv_i2b (pc := 40) hx hb dJ7_append_3_40 rfl ?_
      obtain ⟨z23, h24, hd⟩ := wt_bd_o hd
      obtain ⟨h25, hd⟩ := wt_ck_o hd
      obtain ⟨τ26, eτ26, hd⟩ := wt_lt_o hd
      refine hr_bast (pc := 41) hx hb hK hW hS h24 h25 eτ26 dJ7_append_3_41 (fun H locs hW hS => ?_)
      refine lv_goto (pc := 42) (tgt := 75) hx hb dJ7_append_3_42 (by decide) ?_
      refine lv_aload_n (pc := 75) hx hb dJ7_append_3_75 rfl (lv_at hl 0 rfl) ?_
      have hd := wt_rs_r (Option.some.inj hd) hq11
      exact hr_aret hx hb hr (Or.inl ⟨_, rfl⟩) hlocks (wt_p1 hd) (wt_p2 hd) hW hS dJ7_append_3_76 (Nat.le_of_ble_eq_true rfl) (Nat.le_of_ble_eq_true rfl)

noncomputable def eJ7_getValue (τ : HP) (o_ : Nat) : Option (Nat) :=
  wt_bd (hgA τ o_ [14] 0) fun ad1 => some ad1
set_option maxHeartbeats 4000000 in
theorem wJ7_getValue (l : Launch) {G : HG} {A : Nat → Prop} {τ : HP} {o_ : Nat} {out_ : Nat} (hd : eJ7_getValue τ o_ = some out_) : Met l yJ7_getValue (ws_ yJ7_getValue cJ7_getValue 1 (some (.array .byte))) ({ frames := 0, cells := 0, slots := 0, locals := 0 }) (hPc G A τ [.ref o_]) (hQr G out_ τ A) 0 0 A := by
  refine Met.ofW (cc := cJ7_getValue) (maxL := 1) (ret := (some (.array .byte))) (by decide) rfl ?_
  intro p_ e_ s_ m_ args_ below_ meth_ c_ s₁_ B hml hv
  obtain ⟨rfl, hW, hC⟩ := hv
  have hx := B.exec
  have hb := B.bytes
  have hr := B.returns
  have hts := atoms_spec (ws := (ws_ yJ7_getValue cJ7_getValue 1 (some (.array .byte)))) B.pre
  have hts : ∀ w ∈ lw_all, w.before _ s_ = true := fun w h => hts w (List.mem_cons_of_mem _ h)
  have hown : s_.vm.findClass RJ7 = some m_.cls := findClass_of_methodNamed B.named
  have hlocks := B.notSynchronized
  have hK := hC.1
  have hT := hC.2.1
  have hL := hC.2.2.1
  have hZ := hC.2.2.2.2.1
  have hA := hC.2.2.2.2.2
  have hS : va_S A s_.heap s_.heap [] := va_S.rf
  have hl := lv_entry ([.ref o_]) (n := 1) (Nat.le_of_ble_eq_true rfl)
  rw [lg_entry_eq]
  generalize (lg_sl ([.ref o_]) ++ List.replicate (1 - (lg_sl ([.ref o_])).length) Slot.unset).toArray = ls at hl ⊢
  have hl : lv_has ls 1 [(0, .ref o_)] := hl
  unfold eJ7_getValue at hd
  refine lv_aload_n (pc := 0) hx hb dJ7_getValue_0 rfl (lv_at hl 0 rfl) ?_
  obtain ⟨ad1, h2, hd⟩ := wt_bd_o hd
  refine hr_get (pc := 1) hx hb hts hown hK hW (hgA_o h2) hf_14_0 (fun _ h => h) q246 dJ7_getValue_1 ?_
  exact hr_aret hx hb hr (Or.inr ⟨_, rfl⟩) hlocks (Option.some.inj hd) rfl hW hS dJ7_getValue_4 (Nat.le_of_ble_eq_true rfl) (Nat.le_of_ble_eq_true rfl)

noncomputable def eJ7_length (τ : HP) (o_ : Nat) : Option (Int32) :=
  wt_bd (hgI τ o_ [14] 3) fun f1 => some f1
set_option maxHeartbeats 4000000 in
theorem wJ7_length (l : Launch) {G : HG} {A : Nat → Prop} {τ : HP} {o_ : Nat} {out_ : Int32} (hd : eJ7_length τ o_ = some out_) : Met l yJ7_length (ws_ yJ7_length cJ7_length 1 (some .int)) ({ frames := 0, cells := 0, slots := 0, locals := 0 }) (hPc G A τ [.ref o_]) (hQi G out_ τ A) 0 0 A := by
  refine Met.ofW (cc := cJ7_length) (maxL := 1) (ret := (some .int)) (by decide) rfl ?_
  intro p_ e_ s_ m_ args_ below_ meth_ c_ s₁_ B hml hv
  obtain ⟨rfl, hW, hC⟩ := hv
  have hx := B.exec
  have hb := B.bytes
  have hr := B.returns
  have hts := atoms_spec (ws := (ws_ yJ7_length cJ7_length 1 (some .int))) B.pre
  have hts : ∀ w ∈ lw_all, w.before _ s_ = true := fun w h => hts w (List.mem_cons_of_mem _ h)
  have hown : s_.vm.findClass RJ7 = some m_.cls := findClass_of_methodNamed B.named
  have hlocks := B.notSynchronized
  have hK := hC.1
  have hT := hC.2.1
  have hL := hC.2.2.1
  have hZ := hC.2.2.2.2.1
  have hA := hC.2.2.2.2.2
  have hS : va_S A s_.heap s_.heap [] := va_S.rf
  have hl := lv_entry ([.ref o_]) (n := 1) (Nat.le_of_ble_eq_true rfl)
  rw [lg_entry_eq]
  generalize (lg_sl ([.ref o_]) ++ List.replicate (1 - (lg_sl ([.ref o_])).length) Slot.unset).toArray = ls at hl ⊢
  have hl : lv_has ls 1 [(0, .ref o_)] := hl
  unfold eJ7_length at hd
  refine lv_aload_n (pc := 0) hx hb dJ7_length_0 rfl (lv_at hl 0 rfl) ?_
  obtain ⟨f1, h2, hd⟩ := wt_bd_o hd
  refine hr_get (pc := 1) hx hb hts hown hK hW (hgI_o h2) hf_14_3 (fun _ h => h) q249 dJ7_length_1 ?_
  exact hr_iret hx hb hr rfl hlocks (Option.some.inj hd) rfl hW hS dJ7_length_4 (Nat.le_of_ble_eq_true rfl) (Nat.le_of_ble_eq_true rfl)

noncomputable def eJ8_init (τ : HP) (o_ : Nat) : Option (HP) :=
  wt_bd (eJ7_init τ o_ (16 : Int32)) fun w1 => some w1
set_option maxHeartbeats 4000000 in
theorem wJ8_init (l : Launch) {G : HG} {A : Nat → Prop} {τ : HP} {o_ : Nat} {out_ : HP} (hd : eJ8_init τ o_ = some out_) : Met l yJ8_init (ws_ yJ8_init cJ8_init 1 none) ({ frames := 2, cells := 1, slots := 16, locals := 53 }) (hPc G A τ [.ref o_]) (hQv G out_ A) 1 16 A := by
  refine Met.ofW (cc := cJ8_init) (maxL := 1) (ret := none) (by decide) rfl ?_
  intro p_ e_ s_ m_ args_ below_ meth_ c_ s₁_ B hml hv
  obtain ⟨rfl, hW, hC⟩ := hv
  have hx := B.exec
  have hb := B.bytes
  have hr := B.returns
  have hts := atoms_spec (ws := (ws_ yJ8_init cJ8_init 1 none)) B.pre
  have hts : ∀ w ∈ lw_all, w.before _ s_ = true := fun w h => hts w (List.mem_cons_of_mem _ h)
  have hown : s_.vm.findClass RJ8 = some m_.cls := findClass_of_methodNamed B.named
  have hlocks := B.notSynchronized
  have hK := hC.1
  have hT := hC.2.1
  have hL := hC.2.2.1
  have hZ := hC.2.2.2.2.1
  have hA := hC.2.2.2.2.2
  have hin2 : meth_.name = "<init>" := (name_of_methodNamed B.named B.method).1
  have hS : va_S A s_.heap s_.heap [] := va_S.rf
  have hl := lv_entry ([.ref o_]) (n := 1) (Nat.le_of_ble_eq_true rfl)
  rw [lg_entry_eq]
  generalize (lg_sl ([.ref o_]) ++ List.replicate (1 - (lg_sl ([.ref o_])).length) Slot.unset).toArray = ls at hl ⊢
  have hl : lv_has ls 1 [(0, .ref o_)] := hl
  unfold eJ8_init at hd
  refine lv_aload_n (pc := 0) hx hb dJ8_init_0 rfl (lv_at hl 0 rfl) ?_
  refine lv_bipush (pc := 1) (v := 16) hx hb dJ8_init_1 (by decide) ?_
  obtain ⟨w1, hc2, hd⟩ := wt_bd_o hd
  refine kJ7_init (pc := 3) hx hb hml hown hts hC hW hS hc2 hl.1 (Nat.le_of_ble_eq_true rfl) ⟨Nat.le_of_ble_eq_true rfl, Nat.le_of_ble_eq_true rfl⟩ ⟨(Nat.le_of_ble_eq_true rfl), (Nat.le_of_ble_eq_true rfl)⟩ q233 dJ8_init_3 (fun H locs hW hS => ?_)
  exact hr_vret hx hb hr hlocks (Option.some.inj hd) hW hS dJ8_init_6 (Nat.le_of_ble_eq_true rfl) (Nat.le_of_ble_eq_true rfl)
theorem kJ8_init {p : Program} {l : Launch} {e : Env} {R : Room} {s : State} {m : MethodId} {args : Array Value} {below : List Frame} {meth : Method} {c : Code} {H : Heap} {locs : List Loc} {cells slots : Nat} {Q : State → Prop} {cc : ByteArray} {pc : Nat} {ls : Array Slot} {rest : List Value} {nL : Nat} {own : String} {index : Nat} {G : HG} {A : Nat → Prop} {τ : HP} {o_ : Nat} {out_ : HP} (hx : p.tables.exec = Jvm.exec) (hb : c.code = cc) (hml : c.maxLocals = nL) (hown : s.vm.findClass own = some m.cls) (hts : ∀ w ∈ lw_all, w.before args s = true) (hC : Hcx G A s) (hW : Hw G A τ H) (hS : va_S A s.heap H locs) (hd : eJ8_init τ o_ = some out_) (hsz : ls.size = nL) (hrm : (rest.map fun v => v.category).sum ≤ 8) (hR : 3 ≤ R.frames ∧ 73 ≤ R.locals) (hcs : (cells + 1) ≤ R.cells ∧ (slots + 16) ≤ R.slots) (hlk : Cond.methodLink own index yJ8_init ∈ lw_all) (hdg : decode cc pc = .ok (.invokespecial index, 3)) (kk : ∀ (H1 : Heap) (locs1 : List Loc), Hw G A out_ H1 → va_S A s.heap H1 locs1 → W p l e R s m args below meth c H1 locs1 (cells + 1) (slots + 16) Q (F0 m (pc + 3) ls (rest))) : W p l e R s m args below meth c H locs cells slots Q (F0 m pc ls (.ref o_ :: rest)) := by
  refine va_callv (va_runI (As := []) (rest := rest) ⟨hx, hb, hml, hown, hts⟩ (wJ8_init l hd) (cwI 0 hts (lw_meth q232) rfl rfl rfl (hts _ q77) (hts _ hlk) (hts _ q231) rfl (by decide +kernel) hR) (hr_preS hC hW hS) rfl rfl hsz rfl (lv_room hrm) hdg hcs) hS (fun _ _ h => h) (fun _ h => h) (fun u t H1 locs1 ht hvm hp hB hz hk hS1 => ?_)
  have hW1 : Hw G A out_ t.heap := hB
  rw [ht] at hW1
  exact kk H1 locs1 hW1 hS1
theorem kSU_J7_append_3 {p : Program} {l : Launch} {e : Env} {R : Room} {s : State} {m : MethodId} {args : Array Value} {below : List Frame} {meth : Method} {c : Code} {H : Heap} {locs : List Loc} {cells slots : Nat} {Q : State → Prop} {cc : ByteArray} {pc : Nat} {ls : Array Slot} {rest : List Value} {nL : Nat} {index : Nat} {G : HG} {A : Nat → Prop} {τ : HP} {o_ : Nat} {a0 : Int32} {out_ : Nat × HP} (hx : p.tables.exec = Jvm.exec) (hb : c.code = cc) (hml : c.maxLocals = nL) (hown : s.vm.findClass "java/lang/StringBuilder" = some m.cls) (hts : ∀ w ∈ lw_all, w.before args s = true) (hC : Hcx G A s) (hW : Hw G A τ H) (hS : va_S A s.heap H locs) (hrc : hcl τ o_ = some 14) (hd : eJ7_append_3 τ o_ a0 = some out_) (hsz : ls.size = nL) (hrm : (rest.map fun v => v.category).sum ≤ 8) (hR : 2 ≤ R.frames ∧ 43 ≤ R.locals) (hcs : cells ≤ R.cells ∧ slots ≤ R.slots) (hlk : Cond.methodLink "java/lang/StringBuilder" index yJ7_append_3 ∈ lw_all) (hdg : decode cc pc = .ok (.invokespecial index, 3)) (kk : ∀ (H1 : Heap) (locs1 : List Loc), Hw G A out_.2 H1 → va_S A s.heap H1 locs1 → W p l e R s m args below meth c H1 locs1 cells slots Q (F0 m (pc + 3) ls (.ref out_.1 :: rest))) : W p l e R s m args below meth c H locs cells slots Q (F0 m pc ls (.int a0 :: .ref o_ :: rest)) := by
  refine va_callr (va_runSU (C := "java/lang/StringBuilder") (hC.1.1 14 _ rfl).2 (As := [.int a0]) (rest := rest) ⟨hx, hb, hml, hown, hts⟩ (wJ7_append_3 l hd) (va_cwSU 1 hts (lw_SU hlk q2019 q258 q735 q76 q736) rfl rfl rfl (by decide +kernel) hR) (hr_preV hC hW hS hrc rfl rfl) rfl rfl hsz rfl (lv_room hrm) hdg hcs) hS (fun _ _ h => h) (fun _ h => h) (fun u ra t H1 locs1 ht hvm hp hB hz hk hS1 => ?_)
  have hp : ra = out_.1 := hB.1
  subst hp
  have hW1 : Hw G A out_.2 t.heap := hB.2
  rw [ht] at hW1
  exact kk H1 locs1 hW1 hS1
noncomputable def eJ8_append_3 (τ : HP) (o_ : Nat) (a0 : Int32) : Option (Nat × HP) :=
  wt_bd (eJ7_append_3 τ o_ a0) fun w1 => wt_ck (hcl τ o_ = some 14) <| some (o_, w1.2)
set_option maxHeartbeats 4000000 in
theorem wJ8_append_3 (l : Launch) {G : HG} {A : Nat → Prop} {τ : HP} {o_ : Nat} {a0 : Int32} {out_ : Nat × HP} (hd : eJ8_append_3 τ o_ a0 = some out_) : Met l yJ8_append_3 (ws_ yJ8_append_3 cJ8_append_3 2 (some (.object "java/lang/StringBuilder"))) ({ frames := 2, cells := 0, slots := 0, locals := 43 }) (hPc G A τ [.ref o_, .int a0]) (hQr G out_.1 out_.2 A) 0 0 A := by
  refine Met.ofW (cc := cJ8_append_3) (maxL := 2) (ret := (some (.object "java/lang/StringBuilder"))) (by decide) rfl ?_
  intro p_ e_ s_ m_ args_ below_ meth_ c_ s₁_ B hml hv
  obtain ⟨rfl, hW, hC⟩ := hv
  have hx := B.exec
  have hb := B.bytes
  have hr := B.returns
  have hts := atoms_spec (ws := (ws_ yJ8_append_3 cJ8_append_3 2 (some (.object "java/lang/StringBuilder")))) B.pre
  have hts : ∀ w ∈ lw_all, w.before _ s_ = true := fun w h => hts w (List.mem_cons_of_mem _ h)
  have hown : s_.vm.findClass RJ8 = some m_.cls := findClass_of_methodNamed B.named
  have hlocks := B.notSynchronized
  have hK := hC.1
  have hT := hC.2.1
  have hL := hC.2.2.1
  have hZ := hC.2.2.2.2.1
  have hA := hC.2.2.2.2.2
  have hS : va_S A s_.heap s_.heap [] := va_S.rf
  have hl := lv_entry ([.ref o_, .int a0]) (n := 2) (Nat.le_of_ble_eq_true rfl)
  rw [lg_entry_eq]
  generalize (lg_sl ([.ref o_, .int a0]) ++ List.replicate (2 - (lg_sl ([.ref o_, .int a0])).length) Slot.unset).toArray = ls at hl ⊢
  have hl : lv_has ls 2 [(0, .ref o_), (1, .int a0)] := hl
  unfold eJ8_append_3 at hd
  refine lv_aload_n (pc := 0) hx hb dJ8_append_3_0 rfl (lv_at hl 0 rfl) ?_
  refine lv_iload_n (pc := 1) hx hb dJ8_append_3_1 rfl (lv_at hl 1 rfl) ?_
  obtain ⟨w1, hc2, hd⟩ := wt_bd_o hd
  obtain ⟨h3, hd⟩ := wt_ck_o hd
  refine kSU_J7_append_3 (pc := 2) hx hb hml hown hts hC hW hS h3 hc2 hl.1 (Nat.le_of_ble_eq_true rfl) ⟨Nat.le_of_ble_eq_true rfl, Nat.le_of_ble_eq_true rfl⟩ ⟨Nat.le_of_ble_eq_true rfl, Nat.le_of_ble_eq_true rfl⟩ q734 dJ8_append_3_2 (fun H locs hW hS => ?_)
  refine lv_pop (pc := 5) hx hb dJ8_append_3_5 rfl ?_
  refine lv_aload_n (pc := 6) hx hb dJ8_append_3_6 rfl (lv_at hl 0 rfl) ?_
  exact hr_aret hx hb hr (Or.inl ⟨_, rfl⟩) hlocks (wt_p1 hd) (wt_p2 hd) hW hS dJ8_append_3_7 (Nat.le_of_ble_eq_true rfl) (Nat.le_of_ble_eq_true rfl)
theorem kJ8_append_3 {p : Program} {l : Launch} {e : Env} {R : Room} {s : State} {m : MethodId} {args : Array Value} {below : List Frame} {meth : Method} {c : Code} {H : Heap} {locs : List Loc} {cells slots : Nat} {Q : State → Prop} {cc : ByteArray} {pc : Nat} {ls : Array Slot} {rest : List Value} {nL : Nat} {own : String} {index : Nat} {G : HG} {A : Nat → Prop} {τ : HP} {o_ : Nat} {a0 : Int32} {out_ : Nat × HP} (hx : p.tables.exec = Jvm.exec) (hb : c.code = cc) (hml : c.maxLocals = nL) (hown : s.vm.findClass own = some m.cls) (hts : ∀ w ∈ lw_all, w.before args s = true) (hC : Hcx G A s) (hW : Hw G A τ H) (hS : va_S A s.heap H locs) (hrc : hcl τ o_ = some 14) (hd : eJ8_append_3 τ o_ a0 = some out_) (hsz : ls.size = nL) (hrm : (rest.map fun v => v.category).sum ≤ 8) (hR : 3 ≤ R.frames ∧ 64 ≤ R.locals) (hcs : cells ≤ R.cells ∧ slots ≤ R.slots) (hlk : Cond.methodLink own index yJ8_append_3 ∈ lw_all) (hdg : decode cc pc = .ok (.invokevirtual index, 3)) (kk : ∀ (H1 : Heap) (locs1 : List Loc), Hw G A out_.2 H1 → va_S A s.heap H1 locs1 → W p l e R s m args below meth c H1 locs1 cells slots Q (F0 m (pc + 3) ls (.ref out_.1 :: rest))) : W p l e R s m args below meth c H locs cells slots Q (F0 m pc ls (.int a0 :: .ref o_ :: rest)) := by
  refine va_callr (va_runV (As := [.int a0]) (rest := rest) ⟨hx, hb, hml, hown, hts⟩ (wJ8_append_3 l hd) (cwV 1 hts (lw_V hlk q731 q732 q77 q733) rfl rfl rfl (by decide +kernel) hR) (hr_preV hC hW hS hrc rfl rfl) rfl rfl hsz rfl (lv_room hrm) hdg hcs) hS (fun _ _ h => h) (fun _ h => h) (fun u ra t H1 locs1 ht hvm hp hB hz hk hS1 => ?_)
  have hp : ra = out_.1 := hB.1
  subst hp
  have hW1 : Hw G A out_.2 t.heap := hB.2
  rw [ht] at hW1
  exact kk H1 locs1 hW1 hS1
theorem kSU_J7_length {p : Program} {l : Launch} {e : Env} {R : Room} {s : State} {m : MethodId} {args : Array Value} {below : List Frame} {meth : Method} {c : Code} {H : Heap} {locs : List Loc} {cells slots : Nat} {Q : State → Prop} {cc : ByteArray} {pc : Nat} {ls : Array Slot} {rest : List Value} {nL : Nat} {index : Nat} {G : HG} {A : Nat → Prop} {τ : HP} {o_ : Nat} {out_ : Int32} (hx : p.tables.exec = Jvm.exec) (hb : c.code = cc) (hml : c.maxLocals = nL) (hown : s.vm.findClass "java/lang/StringBuilder" = some m.cls) (hts : ∀ w ∈ lw_all, w.before args s = true) (hC : Hcx G A s) (hW : Hw G A τ H) (hS : va_S A s.heap H locs) (hrc : hcl τ o_ = some 14) (hd : eJ7_length τ o_ = some out_) (hsz : ls.size = nL) (hrm : (rest.map fun v => v.category).sum ≤ 8) (hR : 1 ≤ R.frames ∧ 20 ≤ R.locals) (hcs : cells ≤ R.cells ∧ slots ≤ R.slots) (hlk : Cond.methodLink "java/lang/StringBuilder" index yJ7_length ∈ lw_all) (hdg : decode cc pc = .ok (.invokespecial index, 3)) (kk : ∀ (H1 : Heap) (locs1 : List Loc), Hw G A τ H1 → va_S A s.heap H1 locs1 → W p l e R s m args below meth c H1 locs1 cells slots Q (F0 m (pc + 3) ls (.int out_ :: rest))) : W p l e R s m args below meth c H locs cells slots Q (F0 m pc ls (.ref o_ :: rest)) := by
  refine va_calli (va_runSU (C := "java/lang/StringBuilder") (hC.1.1 14 _ rfl).2 (As := []) (rest := rest) ⟨hx, hb, hml, hown, hts⟩ (wJ7_length l hd) (va_cwSU 0 hts (lw_SU hlk q426 q258 q425 q76 q431) rfl rfl rfl (by decide +kernel) hR) (hr_preV hC hW hS hrc rfl rfl) rfl rfl hsz rfl (lv_room hrm) hdg hcs) hS (fun _ _ h => h) (fun _ h => h) (fun r u t H1 locs1 ht hvm hp hB hz hk hS1 => ?_)
  have hp : r = out_ := hp
  subst hp
  have hW1 : Hw G A τ t.heap := hB
  rw [ht] at hW1
  exact kk H1 locs1 hW1 hS1
noncomputable def eJ8_length (τ : HP) (o_ : Nat) : Option (Int32) :=
  wt_bd (eJ7_length τ o_) fun w1 => wt_ck (hcl τ o_ = some 14) <| some w1
set_option maxHeartbeats 4000000 in
theorem wJ8_length (l : Launch) {G : HG} {A : Nat → Prop} {τ : HP} {o_ : Nat} {out_ : Int32} (hd : eJ8_length τ o_ = some out_) : Met l yJ8_length (ws_ yJ8_length cJ8_length 1 (some .int)) ({ frames := 1, cells := 0, slots := 0, locals := 20 }) (hPc G A τ [.ref o_]) (hQi G out_ τ A) 0 0 A := by
  refine Met.ofW (cc := cJ8_length) (maxL := 1) (ret := (some .int)) (by decide) rfl ?_
  intro p_ e_ s_ m_ args_ below_ meth_ c_ s₁_ B hml hv
  obtain ⟨rfl, hW, hC⟩ := hv
  have hx := B.exec
  have hb := B.bytes
  have hr := B.returns
  have hts := atoms_spec (ws := (ws_ yJ8_length cJ8_length 1 (some .int))) B.pre
  have hts : ∀ w ∈ lw_all, w.before _ s_ = true := fun w h => hts w (List.mem_cons_of_mem _ h)
  have hown : s_.vm.findClass RJ8 = some m_.cls := findClass_of_methodNamed B.named
  have hlocks := B.notSynchronized
  have hK := hC.1
  have hT := hC.2.1
  have hL := hC.2.2.1
  have hZ := hC.2.2.2.2.1
  have hA := hC.2.2.2.2.2
  have hS : va_S A s_.heap s_.heap [] := va_S.rf
  have hl := lv_entry ([.ref o_]) (n := 1) (Nat.le_of_ble_eq_true rfl)
  rw [lg_entry_eq]
  generalize (lg_sl ([.ref o_]) ++ List.replicate (1 - (lg_sl ([.ref o_])).length) Slot.unset).toArray = ls at hl ⊢
  have hl : lv_has ls 1 [(0, .ref o_)] := hl
  unfold eJ8_length at hd
  refine lv_aload_n (pc := 0) hx hb dJ8_length_0 rfl (lv_at hl 0 rfl) ?_
  obtain ⟨w1, hc2, hd⟩ := wt_bd_o hd
  obtain ⟨h3, hd⟩ := wt_ck_o hd
  refine kSU_J7_length (pc := 1) hx hb hml hown hts hC hW hS h3 hc2 hl.1 (Nat.le_of_ble_eq_true rfl) ⟨Nat.le_of_ble_eq_true rfl, Nat.le_of_ble_eq_true rfl⟩ ⟨Nat.le_of_ble_eq_true rfl, Nat.le_of_ble_eq_true rfl⟩ q430 dJ8_length_1 (fun H locs hW hS => ?_)
  exact hr_iret hx hb hr rfl hlocks (Option.some.inj hd) rfl hW hS dJ8_length_4 (Nat.le_of_ble_eq_true rfl) (Nat.le_of_ble_eq_true rfl)
theorem kJ8_length {p : Program} {l : Launch} {e : Env} {R : Room} {s : State} {m : MethodId} {args : Array Value} {below : List Frame} {meth : Method} {c : Code} {H : Heap} {locs : List Loc} {cells slots : Nat} {Q : State → Prop} {cc : ByteArray} {pc : Nat} {ls : Array Slot} {rest : List Value} {nL : Nat} {own : String} {index : Nat} {G : HG} {A : Nat → Prop} {τ : HP} {o_ : Nat} {out_ : Int32} (hx : p.tables.exec = Jvm.exec) (hb : c.code = cc) (hml : c.maxLocals = nL) (hown : s.vm.findClass own = some m.cls) (hts : ∀ w ∈ lw_all, w.before args s = true) (hC : Hcx G A s) (hW : Hw G A τ H) (hS : va_S A s.heap H locs) (hrc : hcl τ o_ = some 14) (hd : eJ8_length τ o_ = some out_) (hsz : ls.size = nL) (hrm : (rest.map fun v => v.category).sum ≤ 8) (hR : 2 ≤ R.frames ∧ 40 ≤ R.locals) (hcs : cells ≤ R.cells ∧ slots ≤ R.slots) (hlk : Cond.methodLink own index yJ8_length ∈ lw_all) (hdg : decode cc pc = .ok (.invokevirtual index, 3)) (kk : ∀ (H1 : Heap) (locs1 : List Loc), Hw G A τ H1 → va_S A s.heap H1 locs1 → W p l e R s m args below meth c H1 locs1 cells slots Q (F0 m (pc + 3) ls (.int out_ :: rest))) : W p l e R s m args below meth c H locs cells slots Q (F0 m pc ls (.ref o_ :: rest)) := by
  refine va_calli (va_runV (As := []) (rest := rest) ⟨hx, hb, hml, hown, hts⟩ (wJ8_length l hd) (cwV 0 hts (lw_V hlk q428 q2018 q77 q429) rfl rfl rfl (by decide +kernel) hR) (hr_preV hC hW hS hrc rfl rfl) rfl rfl hsz rfl (lv_room hrm) hdg hcs) hS (fun _ _ h => h) (fun _ h => h) (fun r u t H1 locs1 ht hvm hp hB hz hk hS1 => ?_)
  have hp : r = out_ := hp
  subst hp
  have hW1 : Hw G A τ t.heap := hB
  rw [ht] at hW1
  exact kk H1 locs1 hW1 hS1
noncomputable def eJ13_checkLength (a0 : Int32) (a1 : Int32) : Option (Unit) :=
  if a0 ≤ a1 then (some ()) else (none)
set_option maxHeartbeats 4000000 in
theorem wJ13_checkLength (l : Launch) {G : HG} {A : Nat → Prop} {τ : HP} {a0 : Int32} {a1 : Int32} {out_ : Unit} (hd : eJ13_checkLength a0 a1 = some out_) : Met l yJ13_checkLength (ws_ yJ13_checkLength cJ13_checkLength 2 none) ({ frames := 0, cells := 0, slots := 0, locals := 0 }) (hPc G A τ [.int a0, .int a1]) (hQv G τ A) 0 0 A := by
  refine Met.ofW (cc := cJ13_checkLength) (maxL := 2) (ret := none) (by decide) rfl ?_
  intro p_ e_ s_ m_ args_ below_ meth_ c_ s₁_ B hml hv
  obtain ⟨rfl, hW, hC⟩ := hv
  have hx := B.exec
  have hb := B.bytes
  have hr := B.returns
  have hts := atoms_spec (ws := (ws_ yJ13_checkLength cJ13_checkLength 2 none)) B.pre
  have hts : ∀ w ∈ lw_all, w.before _ s_ = true := fun w h => hts w (List.mem_cons_of_mem _ h)
  have hown : s_.vm.findClass RJ13 = some m_.cls := findClass_of_methodNamed B.named
  have hlocks := B.notSynchronized
  have hK := hC.1
  have hT := hC.2.1
  have hL := hC.2.2.1
  have hZ := hC.2.2.2.2.1
  have hA := hC.2.2.2.2.2
  have hS : va_S A s_.heap s_.heap [] := va_S.rf
  have hl := lv_entry ([.int a0, .int a1]) (n := 2) (Nat.le_of_ble_eq_true rfl)
  rw [lg_entry_eq]
  generalize (lg_sl ([.int a0, .int a1]) ++ List.replicate (2 - (lg_sl ([.int a0, .int a1])).length) Slot.unset).toArray = ls at hl ⊢
  have hl : lv_has ls 2 [(0, .int a0), (1, .int a1)] := hl
  unfold eJ13_checkLength at hd
  refine lv_iload_n (pc := 0) hx hb dJ13_checkLength_0 rfl (lv_at hl 1 rfl) ?_
  refine lv_iload_n (pc := 1) hx hb dJ13_checkLength_1 rfl (lv_at hl 0 rfl) ?_
  refine lv_icmp_ge (pc := 2) (tgt := 37) hx hb dJ13_checkLength_2 (by decide) (fun c1 => ?_) (fun c1 => ?_)
  · have hd := wt_it hd c1
    exact hr_vret hx hb hr hlocks rfl hW hS dJ13_checkLength_37 (Nat.le_of_ble_eq_true rfl) (Nat.le_of_ble_eq_true rfl)
  · have hd := wt_if hd c1
    exact absurd hd (by intro h; cases h)
theorem kJ13_checkLength {p : Program} {l : Launch} {e : Env} {R : Room} {s : State} {m : MethodId} {args : Array Value} {below : List Frame} {meth : Method} {c : Code} {H : Heap} {locs : List Loc} {cells slots : Nat} {Q : State → Prop} {cc : ByteArray} {pc : Nat} {ls : Array Slot} {rest : List Value} {nL : Nat} {own : String} {index : Nat} {G : HG} {A : Nat → Prop} {τ : HP} {a0 : Int32} {a1 : Int32} {out_ : Unit} (hx : p.tables.exec = Jvm.exec) (hb : c.code = cc) (hml : c.maxLocals = nL) (hown : s.vm.findClass own = some m.cls) (hts : ∀ w ∈ lw_all, w.before args s = true) (hC : Hcx G A s) (hW : Hw G A τ H) (hS : va_S A s.heap H locs) (hd : eJ13_checkLength a0 a1 = some out_) (hsz : ls.size = nL) (hrm : (rest.map fun v => v.category).sum ≤ 8) (hR : 1 ≤ R.frames ∧ 21 ≤ R.locals) (hcs : cells ≤ R.cells ∧ slots ≤ R.slots) (hlk : Cond.methodLink own index yJ13_checkLength ∈ lw_all) (hdg : decode cc pc = .ok (.invokestatic index, 3)) (kk : ∀ (H1 : Heap) (locs1 : List Loc), Hw G A τ H1 → va_S A s.heap H1 locs1 → W p l e R s m args below meth c H1 locs1 cells slots Q (F0 m (pc + 3) ls (rest))) : W p l e R s m args below meth c H locs cells slots Q (F0 m pc ls (.int a1 :: .int a0 :: rest)) := by
  refine va_callv (va_runS (As := [.int a0, .int a1]) (rest := rest) ⟨hx, hb, hml, hown, hts⟩ (wJ13_checkLength l hd) (va_cwS 2 hts (lw_S hlk q440 q82 q441) rfl rfl rfl (by decide +kernel) hR) (hr_preS hC hW hS) rfl rfl hsz rfl (lv_room hrm) hdg hcs) hS (fun _ _ h => h) (fun _ h => h) (fun u t H1 locs1 ht hvm hp hB hz hk hS1 => ?_)
  have hW1 : Hw G A τ t.heap := hB
  rw [ht] at hW1
  exact kk H1 locs1 hW1 hS1
noncomputable def eJ13_copyOfRangeByte (τ : HP) (a0 : Nat) (a1 : Int32) (a2 : Int32) : Option (Nat × HP) :=
  wt_bd (eJ13_checkLength a1 a2) fun w1 => wt_lt ((a2 - a1)) fun n3 => wt_ck (¬ n3 < 0 ∧ n3.toNatClampNeg ≤ 16) <| wt_lt (hnew τ (.inl (1, n3.toNatClampNeg, .inl (fun _ => 0)))) fun τ5 => wt_bd (hln τ5 a0 1) fun m6 => wt_bd (haI τ5 a0 1) fun z8 => wt_bd (haI τ5 τ.2 1) fun z10 => wt_ck (¬ a1 < 0 ∧ ¬ (0 : Int32) < 0 ∧ ¬ (wt_min ((Int32.ofNat m6) - a1) n3) < 0 ∧ a1.toNatClampNeg + (wt_min ((Int32.ofNat m6) - a1) n3).toNatClampNeg ≤ z8.1 ∧ (0 : Int32).toNatClampNeg + (wt_min ((Int32.ofNat m6) - a1) n3).toNatClampNeg ≤ z10.1) <| wt_ck (∀ i, i < (wt_min ((Int32.ofNat m6) - a1) n3).toNatClampNeg → fits .byte (.int (z8.2 (a1.toNatClampNeg + i))) = true) <| wt_lt (hst τ5 τ.2 (.inl (1, z10.1, .inl (va_cpy z8.2 z10.2 a1.toNatClampNeg (0 : Int32).toNatClampNeg (wt_min ((Int32.ofNat m6) - a1) n3).toNatClampNeg)))) fun τ14 => some (τ.2, τ14)
set_option maxHeartbeats 4000000 in
theorem wJ13_copyOfRangeByte (l : Launch) {G : HG} {A : Nat → Prop} {τ : HP} {a0 : Nat} {a1 : Int32} {a2 : Int32} {out_ : Nat × HP} (hd : eJ13_copyOfRangeByte τ a0 a1 a2 = some out_) : Met l yJ13_copyOfRangeByte (ws_ yJ13_copyOfRangeByte cJ13_copyOfRangeByte 5 (some (.array .byte))) ({ frames := 1, cells := 1, slots := 16, locals := 32 }) (hPc G A τ [.ref a0, .int a1, .int a2]) (hQr G out_.1 out_.2 A) 1 16 A := by
  refine Met.ofW (cc := cJ13_copyOfRangeByte) (maxL := 5) (ret := (some (.array .byte))) (by decide) rfl ?_
  intro p_ e_ s_ m_ args_ below_ meth_ c_ s₁_ B hml hv
  obtain ⟨rfl, hW, hC⟩ := hv
  have hx := B.exec
  have hb := B.bytes
  have hr := B.returns
  have hts := atoms_spec (ws := (ws_ yJ13_copyOfRangeByte cJ13_copyOfRangeByte 5 (some (.array .byte)))) B.pre
  have hts : ∀ w ∈ lw_all, w.before _ s_ = true := fun w h => hts w (List.mem_cons_of_mem _ h)
  have hown : s_.vm.findClass RJ13 = some m_.cls := findClass_of_methodNamed B.named
  have hlocks := B.notSynchronized
  have hK := hC.1
  have hT := hC.2.1
  have hL := hC.2.2.1
  have hZ := hC.2.2.2.2.1
  have hA := hC.2.2.2.2.2
  have hS : va_S A s_.heap s_.heap [] := va_S.rf
  have hl := lv_entry ([.ref a0, .int a1, .int a2]) (n := 5) (Nat.le_of_ble_eq_true rfl)
  rw [lg_entry_eq]
  generalize (lg_sl ([.ref a0, .int a1, .int a2]) ++ List.replicate (5 - (lg_sl ([.ref a0, .int a1, .int a2])).length) Slot.unset).toArray = ls at hl ⊢
  have hl : lv_has ls 5 [(0, .ref a0), (1, .int a1), (2, .int a2)] := hl
  unfold eJ13_copyOfRangeByte at hd
  refine lv_iload_n (pc := 0) hx hb dJ13_copyOfRangeByte_0 rfl (lv_at hl 1 rfl) ?_
  refine lv_iload_n (pc := 1) hx hb dJ13_copyOfRangeByte_1 rfl (lv_at hl 2 rfl) ?_
  obtain ⟨w1, hc2, hd⟩ := wt_bd_o hd
  refine kJ13_checkLength (pc := 2) hx hb hml hown hts hC hW hS hc2 hl.1 (Nat.le_of_ble_eq_true rfl) ⟨Nat.le_of_ble_eq_true rfl, Nat.le_of_ble_eq_true rfl⟩ ⟨Nat.le_of_ble_eq_true rfl, Nat.le_of_ble_eq_true rfl⟩ q439 dJ13_copyOfRangeByte_2 (fun H locs hW hS => ?_)
  refine lv_iload_n (pc := 5) hx hb dJ13_copyOfRangeByte_5 rfl (lv_at hl 2 rfl) ?_
  refine lv_iload_n (pc := 6) hx hb dJ13_copyOfRangeByte_6 rfl (lv_at hl 1 rfl) ?_
  refine lv_isub (pc := 7) hx hb dJ13_copyOfRangeByte_7 ?_
  obtain ⟨n3, en3, hd⟩ := wt_lt_o hd
  refine lv_tope en3 ?_
  refine lv_istore_n (pc := 8) (lv' := [(3, .int n3), (0, .ref a0), (1, .int a1), (2, .int a2)]) hx hb dJ13_copyOfRangeByte_8 rfl hl (by decide) rfl (fun ls hl => ?_)
  refine lv_iload_n (pc := 9) hx hb dJ13_copyOfRangeByte_9 rfl (lv_at hl 0 rfl) ?_
  obtain ⟨h4, hd⟩ := wt_ck_o hd
  obtain ⟨τ5, eτ5, hd⟩ := wt_lt_o hd
  refine hr_newB (pc := 10) (N := n3.toNatClampNeg) hx hb hts hK hW hS hA h4.1 rfl (Nat.le_trans h4.2 (by decide)) eτ5 (Nat.le_of_ble_eq_true rfl) (Nat.le_trans (Nat.add_le_add_left h4.2 _) (Nat.le_of_ble_eq_true rfl)) dJ13_copyOfRangeByte_10 (fun H hW hS => ?_)
  refine W.widen (k := 1) (n := 16) (Nat.le_refl _) (Nat.add_le_add_left h4.2 _) ?_
  refine lv_astore (pc := 12) (lv' := [(4, .ref (τ.2)), (3, .int n3), (0, .ref a0), (1, .int a1), (2, .int a2)]) hx hb dJ13_copyOfRangeByte_12 hl (by decide) rfl (fun ls hl => ?_)
  refine lv_aload_n (pc := 14) hx hb dJ13_copyOfRangeByte_14 rfl (lv_at hl 2 rfl) ?_
  refine lv_iload_n (pc := 15) hx hb dJ13_copyOfRangeByte_15 rfl (lv_at hl 3 rfl) ?_
  refine lv_aload (pc := 16) hx hb dJ13_copyOfRangeByte_16 (lv_at hl 0 rfl) ?_
  refine lv_iconst (pc := 18) (v := 0) hx hb dJ13_copyOfRangeByte_18 (by decide) ?_
  refine lv_aload_n (pc := 19) hx hb dJ13_copyOfRangeByte_19 rfl (lv_at hl 2 rfl) ?_
  obtain ⟨m6, h7, hd⟩ := wt_bd_o hd
  refine hr_alen (pc := 20) (t := 1) hx hb hK hW h7 rfl rfl dJ13_copyOfRangeByte_20 ?_
  refine lv_iload_n (pc := 21) hx hb dJ13_copyOfRangeByte_21 rfl (lv_at hl 3 rfl) ?_
  refine lv_isub (pc := 22) hx hb dJ13_copyOfRangeByte_22 ?_
  refine lv_iload_n (pc := 23) hx hb dJ13_copyOfRangeByte_23 rfl (lv_at hl 1 rfl) ?_
  refine va_mmin (pc := 24) hx hb (hml.trans hl.1.symm) hown (hts _ q301) (hts _ q302) (hts _ q81) (hts _ q303) (Nat.le_of_ble_eq_true rfl) (Nat.le_of_ble_eq_true rfl) (Nat.le_of_ble_eq_true rfl) (Nat.le_of_ble_eq_true rfl) dJ13_copyOfRangeByte_24 ?_
  obtain ⟨z8, h9, hd⟩ := wt_bd_o hd
  obtain ⟨z10, h11, hd⟩ := wt_bd_o hd
  obtain ⟨h12, hd⟩ := wt_ck_o hd
  obtain ⟨h13, hd⟩ := wt_ck_o hd
  obtain ⟨τ14, eτ14, hd⟩ := wt_lt_o hd
  refine hr_copyI (pc := 27) (t := 1) hx hb (hml.trans hl.1.symm) hts hown hC hW hS h9 h11 rfl (by decide) h12 h13 eτ14 (hts _ q304) (Nat.le_of_ble_eq_true rfl) (Nat.le_of_ble_eq_true rfl) dJ13_copyOfRangeByte_27 (fun H locs hW hS => ?_)
  refine lv_aload (pc := 30) hx hb dJ13_copyOfRangeByte_30 (lv_at hl 0 rfl) ?_
  exact hr_aret hx hb hr (Or.inr ⟨_, rfl⟩) hlocks (wt_p1 hd) (wt_p2 hd) hW hS dJ13_copyOfRangeByte_32 (Nat.le_of_ble_eq_true rfl) (Nat.le_of_ble_eq_true rfl)
theorem kJ13_copyOfRangeByte {p : Program} {l : Launch} {e : Env} {R : Room} {s : State} {m : MethodId} {args : Array Value} {below : List Frame} {meth : Method} {c : Code} {H : Heap} {locs : List Loc} {cells slots : Nat} {Q : State → Prop} {cc : ByteArray} {pc : Nat} {ls : Array Slot} {rest : List Value} {nL : Nat} {own : String} {index : Nat} {G : HG} {A : Nat → Prop} {τ : HP} {a0 : Nat} {a1 : Int32} {a2 : Int32} {out_ : Nat × HP} (hx : p.tables.exec = Jvm.exec) (hb : c.code = cc) (hml : c.maxLocals = nL) (hown : s.vm.findClass own = some m.cls) (hts : ∀ w ∈ lw_all, w.before args s = true) (hC : Hcx G A s) (hW : Hw G A τ H) (hS : va_S A s.heap H locs) (hd : eJ13_copyOfRangeByte τ a0 a1 a2 = some out_) (hsz : ls.size = nL) (hrm : (rest.map fun v => v.category).sum ≤ 8) (hR : 2 ≤ R.frames ∧ 56 ≤ R.locals) (hcs : (cells + 1) ≤ R.cells ∧ (slots + 16) ≤ R.slots) (hlk : Cond.methodLink own index yJ13_copyOfRangeByte ∈ lw_all) (hdg : decode cc pc = .ok (.invokestatic index, 3)) (kk : ∀ (H1 : Heap) (locs1 : List Loc), Hw G A out_.2 H1 → va_S A s.heap H1 locs1 → W p l e R s m args below meth c H1 locs1 (cells + 1) (slots + 16) Q (F0 m (pc + 3) ls (.ref out_.1 :: rest))) : W p l e R s m args below meth c H locs cells slots Q (F0 m pc ls (.int a2 :: .int a1 :: .ref a0 :: rest)) := by
  refine va_callr (va_runS (As := [.ref a0, .int a1, .int a2]) (rest := rest) ⟨hx, hb, hml, hown, hts⟩ (wJ13_copyOfRangeByte l hd) (va_cwS 3 hts (lw_S hlk q437 q82 q438) rfl rfl rfl (by decide +kernel) hR) (hr_preS hC hW hS) rfl rfl hsz rfl (lv_room hrm) hdg hcs) hS (fun _ _ h => h) (fun _ h => h) (fun u ra t H1 locs1 ht hvm hp hB hz hk hS1 => ?_)
  have hp : ra = out_.1 := hB.1
  subst hp
  have hW1 : Hw G A out_.2 t.heap := hB.2
  rw [ht] at hW1
  exact kk H1 locs1 hW1 hS1
noncomputable def eJ13_copyOfRange (τ : HP) (a0 : Nat) (a1 : Int32) (a2 : Int32) : Option (Nat × HP) :=
  wt_bd (if a1 = 0 then (wt_bd (hln τ a0 1) fun m6 => if a2 = (Int32.ofNat m6) then (none) else (some ())) else (some ())) fun w1 => wt_bd (eJ13_copyOfRangeByte τ a0 a1 a2) fun w9 => some (w9.1, w9.2)
set_option maxHeartbeats 4000000 in
theorem wJ13_copyOfRange (l : Launch) {G : HG} {A : Nat → Prop} {τ : HP} {a0 : Nat} {a1 : Int32} {a2 : Int32} {out_ : Nat × HP} (hd : eJ13_copyOfRange τ a0 a1 a2 = some out_) : Met l yJ13_copyOfRange (ws_ yJ13_copyOfRange cJ13_copyOfRange 3 (some (.array .byte))) ({ frames := 2, cells := 1, slots := 16, locals := 56 }) (hPc G A τ [.ref a0, .int a1, .int a2]) (hQr G out_.1 out_.2 A) 1 16 A := by
  refine Met.ofW (cc := cJ13_copyOfRange) (maxL := 3) (ret := (some (.array .byte))) (by decide) rfl ?_
  intro p_ e_ s_ m_ args_ below_ meth_ c_ s₁_ B hml hv
  obtain ⟨rfl, hW, hC⟩ := hv
  have hx := B.exec
  have hb := B.bytes
  have hr := B.returns
  have hts := atoms_spec (ws := (ws_ yJ13_copyOfRange cJ13_copyOfRange 3 (some (.array .byte)))) B.pre
  have hts : ∀ w ∈ lw_all, w.before _ s_ = true := fun w h => hts w (List.mem_cons_of_mem _ h)
  have hown : s_.vm.findClass RJ13 = some m_.cls := findClass_of_methodNamed B.named
  have hlocks := B.notSynchronized
  have hK := hC.1
  have hT := hC.2.1
  have hL := hC.2.2.1
  have hZ := hC.2.2.2.2.1
  have hA := hC.2.2.2.2.2
  have hS : va_S A s_.heap s_.heap [] := va_S.rf
  have hl := lv_entry ([.ref a0, .int a1, .int a2]) (n := 3) (Nat.le_of_ble_eq_true rfl)
  rw [lg_entry_eq]
  generalize (lg_sl ([.ref a0, .int a1, .int a2]) ++ List.replicate (3 - (lg_sl ([.ref a0, .int a1, .int a2])).length) Slot.unset).toArray = ls at hl ⊢
  have hl : lv_has ls 3 [(0, .ref a0), (1, .int a1), (2, .int a2)] := hl
  unfold eJ13_copyOfRange at hd
  refine lv_iload_n (pc := 0) hx hb dJ13_copyOfRange_0 rfl (lv_at hl 1 rfl) ?_
  obtain ⟨w1, hj2, hq3⟩ := wt_bd_o hd
  have hX4 : ∀ w1_ : Unit, w1_ = w1 → ∀ (H : Heap) (locs : List Loc) (ls : Array Slot), Hw G A τ H → va_S A s_.heap H locs → lv_has ls 3 [(0, .ref a0), (1, .int a1), (2, .int a2)] → W p_ l e_ (headSpec (ws_ yJ13_copyOfRange cJ13_copyOfRange 3 (some (.array .byte))) ({ frames := 2, cells := 1, slots := 16, locals := 56 })).room s_ m_ ([.ref a0, .int a1, .int a2] : List Value).toArray below_ meth_ c_ H locs 0 0 (MQ below_ (hQr G out_.1 out_.2 A) ([.ref a0, .int a1, .int a2] : List Value).toArray s_ 1 16 A) (F0 m_ 10 ls []) := by
    intro w1_ hw_
    have hd := hq3
    subst hw_
    clear hj2 hq3
    intro H locs ls hW hS hl
    refine lv_aload_n (pc := 10) hx hb dJ13_copyOfRange_10 rfl (lv_at hl 0 rfl) ?_
    refine lv_iload_n (pc := 11) hx hb dJ13_copyOfRange_11 rfl (lv_at hl 1 rfl) ?_
    refine lv_iload_n (pc := 12) hx hb dJ13_copyOfRange_12 rfl (lv_at hl 2 rfl) ?_
    obtain ⟨w9, hc10, hd⟩ := wt_bd_o hd
    refine kJ13_copyOfRangeByte (pc := 13) hx hb hml hown hts hC hW hS hc10 hl.1 (Nat.le_of_ble_eq_true rfl) ⟨Nat.le_of_ble_eq_true rfl, Nat.le_of_ble_eq_true rfl⟩ ⟨(Nat.le_of_ble_eq_true rfl), (Nat.le_of_ble_eq_true rfl)⟩ q436 dJ13_copyOfRange_13 (fun H locs hW hS => ?_)
    exact hr_aret hx hb hr (Or.inr ⟨_, rfl⟩) hlocks (wt_p1 hd) (wt_p2 hd) hW hS dJ13_copyOfRange_16 (Nat.le_of_ble_eq_true rfl) (Nat.le_of_ble_eq_true rfl)
  have hd := hj2
  refine lv_if_ne (pc := 1) (tgt := 10) hx hb dJ13_copyOfRange_1 (by decide) (fun c5 => ?_) (fun c5 => ?_)
  · have hd := wt_if hd c5
    exact hX4 () (Option.some.inj hd) _ _ _ hW hS hl
  · have hd := wt_it hd c5
    refine lv_iload_n (pc := 4) hx hb dJ13_copyOfRange_4 rfl (lv_at hl 2 rfl) ?_
    refine lv_aload_n (pc := 5) hx hb dJ13_copyOfRange_5 rfl (lv_at hl 0 rfl) ?_
    obtain ⟨m6, h7, hd⟩ := wt_bd_o hd
    refine hr_alen (pc := 6) (t := 1) hx hb hK hW h7 rfl rfl dJ13_copyOfRange_6 ?_
    refine lv_icmp_eq (pc := 7) (tgt := 17) hx hb dJ13_copyOfRange_7 (by decide) (fun c8 => ?_) (fun c8 => ?_)
    · have hd := wt_it hd c8
      exact absurd hd (by intro h; cases h)
    · have hd := wt_if hd c8
      exact hX4 () (Option.some.inj hd) _ _ _ hW hS hl
theorem kJ13_copyOfRange {p : Program} {l : Launch} {e : Env} {R : Room} {s : State} {m : MethodId} {args : Array Value} {below : List Frame} {meth : Method} {c : Code} {H : Heap} {locs : List Loc} {cells slots : Nat} {Q : State → Prop} {cc : ByteArray} {pc : Nat} {ls : Array Slot} {rest : List Value} {nL : Nat} {own : String} {index : Nat} {G : HG} {A : Nat → Prop} {τ : HP} {a0 : Nat} {a1 : Int32} {a2 : Int32} {out_ : Nat × HP} (hx : p.tables.exec = Jvm.exec) (hb : c.code = cc) (hml : c.maxLocals = nL) (hown : s.vm.findClass own = some m.cls) (hts : ∀ w ∈ lw_all, w.before args s = true) (hC : Hcx G A s) (hW : Hw G A τ H) (hS : va_S A s.heap H locs) (hd : eJ13_copyOfRange τ a0 a1 a2 = some out_) (hsz : ls.size = nL) (hrm : (rest.map fun v => v.category).sum ≤ 8) (hR : 3 ≤ R.frames ∧ 78 ≤ R.locals) (hcs : (cells + 1) ≤ R.cells ∧ (slots + 16) ≤ R.slots) (hlk : Cond.methodLink own index yJ13_copyOfRange ∈ lw_all) (hdg : decode cc pc = .ok (.invokestatic index, 3)) (kk : ∀ (H1 : Heap) (locs1 : List Loc), Hw G A out_.2 H1 → va_S A s.heap H1 locs1 → W p l e R s m args below meth c H1 locs1 (cells + 1) (slots + 16) Q (F0 m (pc + 3) ls (.ref out_.1 :: rest))) : W p l e R s m args below meth c H locs cells slots Q (F0 m pc ls (.int a2 :: .int a1 :: .ref a0 :: rest)) := by
  refine va_callr (va_runS (As := [.ref a0, .int a1, .int a2]) (rest := rest) ⟨hx, hb, hml, hown, hts⟩ (wJ13_copyOfRange l hd) (va_cwS 3 hts (lw_S hlk q434 q82 q435) rfl rfl rfl (by decide +kernel) hR) (hr_preS hC hW hS) rfl rfl hsz rfl (lv_room hrm) hdg hcs) hS (fun _ _ h => h) (fun _ h => h) (fun u ra t H1 locs1 ht hvm hp hB hz hk hS1 => ?_)
  have hp : ra = out_.1 := hB.1
  subst hp
  have hW1 : Hw G A out_.2 t.heap := hB.2
  rw [ht] at hW1
  exact kk H1 locs1 hW1 hS1
theorem kU_J7_getValue_14 {p : Program} {l : Launch} {e : Env} {R : Room} {s : State} {m : MethodId} {args : Array Value} {below : List Frame} {meth : Method} {c : Code} {H : Heap} {locs : List Loc} {cells slots : Nat} {Q : State → Prop} {cc : ByteArray} {pc : Nat} {ls : Array Slot} {rest : List Value} {nL : Nat} {own : String} {index : Nat} {G : HG} {A : Nat → Prop} {τ : HP} {o_ : Nat} {out_ : Nat} (hx : p.tables.exec = Jvm.exec) (hb : c.code = cc) (hml : c.maxLocals = nL) (hown : s.vm.findClass own = some m.cls) (hts : ∀ w ∈ lw_all, w.before args s = true) (hC : Hcx G A s) (hW : Hw G A τ H) (hS : va_S A s.heap H locs) (hrc : hcl τ o_ = some 14) (hd : eJ7_getValue τ o_ = some out_) (hsz : ls.size = nL) (hrm : (rest.map fun v => v.category).sum ≤ 8) (hR : 1 ≤ R.frames ∧ 20 ≤ R.locals) (hcs : cells ≤ R.cells ∧ slots ≤ R.slots) (hlk : Cond.methodLink own index ⟨"java/lang/AbstractStringBuilder", "getValue", "()[B"⟩ ∈ lw_all) (hdg : decode cc pc = .ok (.invokevirtual index, 3)) (kk : ∀ (H1 : Heap) (locs1 : List Loc), Hw G A τ H1 → va_S A s.heap H1 locs1 → W p l e R s m args below meth c H1 locs1 cells slots Q (F0 m (pc + 3) ls (.ref out_ :: rest))) : W p l e R s m args below meth c H locs cells slots Q (F0 m pc ls (.ref o_ :: rest)) := by
  refine va_callr (va_runU (As := []) (rest := rest) ⟨hx, hb, hml, hown, hts⟩ (wJ7_getValue l hd) (va_cwU (C := "java/lang/StringBuilder") (owner := "java/lang/AbstractStringBuilder") (x := ⟨"java/lang/AbstractStringBuilder", "getValue", "()[B"⟩) 0 hts (lw_U hlk q421 q422 q420 q76 q423) rfl rfl rfl rfl (by decide +kernel) hR) (hr_preV hC hW hS hrc rfl rfl) rfl rfl hsz rfl (lv_room hrm) hdg hcs) hS (fun _ _ h => h) (fun _ h => h) (fun u ra t H1 locs1 ht hvm hp hB hz hk hS1 => ?_)
  have hp : ra = out_ := hB.1
  subst hp
  have hW1 : Hw G A τ t.heap := hB.2
  rw [ht] at hW1
  exact kk H1 locs1 hW1 hS1
theorem kU_J8_length_14 {p : Program} {l : Launch} {e : Env} {R : Room} {s : State} {m : MethodId} {args : Array Value} {below : List Frame} {meth : Method} {c : Code} {H : Heap} {locs : List Loc} {cells slots : Nat} {Q : State → Prop} {cc : ByteArray} {pc : Nat} {ls : Array Slot} {rest : List Value} {nL : Nat} {own : String} {index : Nat} {G : HG} {A : Nat → Prop} {τ : HP} {o_ : Nat} {out_ : Int32} (hx : p.tables.exec = Jvm.exec) (hb : c.code = cc) (hml : c.maxLocals = nL) (hown : s.vm.findClass own = some m.cls) (hts : ∀ w ∈ lw_all, w.before args s = true) (hC : Hcx G A s) (hW : Hw G A τ H) (hS : va_S A s.heap H locs) (hrc : hcl τ o_ = some 14) (hd : eJ8_length τ o_ = some out_) (hsz : ls.size = nL) (hrm : (rest.map fun v => v.category).sum ≤ 8) (hR : 2 ≤ R.frames ∧ 40 ≤ R.locals) (hcs : cells ≤ R.cells ∧ slots ≤ R.slots) (hlk : Cond.methodLink own index ⟨"java/lang/AbstractStringBuilder", "length", "()I"⟩ ∈ lw_all) (hdg : decode cc pc = .ok (.invokevirtual index, 3)) (kk : ∀ (H1 : Heap) (locs1 : List Loc), Hw G A τ H1 → va_S A s.heap H1 locs1 → W p l e R s m args below meth c H1 locs1 cells slots Q (F0 m (pc + 3) ls (.int out_ :: rest))) : W p l e R s m args below meth c H locs cells slots Q (F0 m pc ls (.ref o_ :: rest)) := by
  refine va_calli (va_runU (As := []) (rest := rest) ⟨hx, hb, hml, hown, hts⟩ (wJ8_length l hd) (va_cwO (C := "java/lang/StringBuilder") (owner := "java/lang/AbstractStringBuilder") (x := ⟨"java/lang/AbstractStringBuilder", "length", "()I"⟩) 0 hts (lw_O hlk q426 q425 q427 q428 q77 q429) rfl rfl rfl q431 (by decide +kernel) hR) (hr_preV hC hW hS hrc rfl rfl) rfl rfl hsz rfl (lv_room hrm) hdg hcs) hS (fun _ _ h => h) (fun _ h => h) (fun r u t H1 locs1 ht hvm hp hB hz hk hS1 => ?_)
  have hp : r = out_ := hp
  subst hp
  have hW1 : Hw G A τ t.heap := hB
  rw [ht] at hW1
  exact kk H1 locs1 hW1 hS1
noncomputable def eJ9_init_2 (τ : HP) (o_ : Nat) (a0 : Nat) : Option (HP) :=
  wt_ck (hcl τ a0 = some 14) <| wt_bd (eJ7_getValue τ a0) fun w2 => wt_ck (hcl τ a0 = some 14) <| wt_bd (eJ8_length τ a0) fun w5 => wt_ck (hcl τ a0 = some 14) <| wt_bd (eJ7_isLatin1 τ a0) fun w8 => if w8 = 0 then (none) else (wt_bd (hp τ o_ [15] 1 (.int (0 : Int32))) fun τ11 => wt_bd (eJ13_copyOfRange τ11 w2 (0 : Int32) w5) fun w13 => wt_bd (hp w13.2 o_ [15] 0 (.ref w13.1)) fun τ15 => some (τ15))
set_option maxHeartbeats 4000000 in
theorem wJ9_init_2 (l : Launch) {G : HG} {A : Nat → Prop} {τ : HP} {o_ : Nat} {a0 : Nat} {out_ : HP} (hd : eJ9_init_2 τ o_ a0 = some out_) : Met l yJ9_init_2 (ws_ yJ9_init_2 cJ9_init_2 5 none) ({ frames := 3, cells := 1, slots := 16, locals := 78 }) (hPc G A τ [.ref o_, .ref a0, .null]) (hQv G out_ A) 1 16 A := by
  refine Met.ofW (cc := cJ9_init_2) (maxL := 5) (ret := none) (by decide) rfl ?_
  intro p_ e_ s_ m_ args_ below_ meth_ c_ s₁_ B hml hv
  obtain ⟨rfl, hW, hC⟩ := hv
  have hx := B.exec
  have hb := B.bytes
  have hr := B.returns
  have hts := atoms_spec (ws := (ws_ yJ9_init_2 cJ9_init_2 5 none)) B.pre
  have hts : ∀ w ∈ lw_all, w.before _ s_ = true := fun w h => hts w (List.mem_cons_of_mem _ h)
  have hown : s_.vm.findClass RJ9 = some m_.cls := findClass_of_methodNamed B.named
  have hlocks := B.notSynchronized
  have hK := hC.1
  have hT := hC.2.1
  have hL := hC.2.2.1
  have hZ := hC.2.2.2.2.1
  have hA := hC.2.2.2.2.2
  have hin2 : meth_.name = "<init>" := (name_of_methodNamed B.named B.method).1
  have hS : va_S A s_.heap s_.heap [] := va_S.rf
  have hl := lv_entry ([.ref o_, .ref a0, .null]) (n := 5) (Nat.le_of_ble_eq_true rfl)
  rw [lg_entry_eq]
  generalize (lg_sl ([.ref o_, .ref a0, .null]) ++ List.replicate (5 - (lg_sl ([.ref o_, .ref a0, .null])).length) Slot.unset).toArray = ls at hl ⊢
  have hl : lv_has ls 5 [(0, .ref o_), (1, .ref a0), (2, .null)] := hl
  unfold eJ9_init_2 at hd
  refine lv_aload_n (pc := 0) hx hb dJ9_init_2_0 rfl (lv_at hl 0 rfl) ?_
  refine W.objInit (g := F0 m_ 1 ls _) hx hb hown (hts _ q418) (hts _ q110) (hts _ q111) rfl (by rw [hml]; exact hl.1) rfl dJ9_init_2_1 (Nat.le_of_ble_eq_true rfl) (Nat.le_of_ble_eq_true rfl) ?_
  refine W.eq (g2 := F0 m_ 4 ls []) rfl ?_
  refine lv_aload_n (pc := 4) hx hb dJ9_init_2_4 rfl (lv_at hl 1 rfl) ?_
  obtain ⟨h1, hd⟩ := wt_ck_o hd
  obtain ⟨w2, hc3, hd⟩ := wt_bd_o hd
  refine kU_J7_getValue_14 (pc := 5) hx hb hml hown hts hC hW hS h1 hc3 hl.1 (Nat.le_of_ble_eq_true rfl) ⟨Nat.le_of_ble_eq_true rfl, Nat.le_of_ble_eq_true rfl⟩ ⟨Nat.le_of_ble_eq_true rfl, Nat.le_of_ble_eq_true rfl⟩ q419 dJ9_init_2_5 (fun H locs hW hS => ?_)
  refine lv_astore_n (pc := 8) (lv' := [(3, .ref w2), (0, .ref o_), (1, .ref a0), (2, .null)]) hx hb dJ9_init_2_8 rfl hl (by decide) rfl (fun ls hl => ?_)
  refine lv_aload_n (pc := 9) hx hb dJ9_init_2_9 rfl (lv_at hl 2 rfl) ?_
  obtain ⟨h4, hd⟩ := wt_ck_o hd
  obtain ⟨w5, hc6, hd⟩ := wt_bd_o hd
  refine kU_J8_length_14 (pc := 10) hx hb hml hown hts hC hW hS h4 hc6 hl.1 (Nat.le_of_ble_eq_true rfl) ⟨Nat.le_of_ble_eq_true rfl, Nat.le_of_ble_eq_true rfl⟩ ⟨Nat.le_of_ble_eq_true rfl, Nat.le_of_ble_eq_true rfl⟩ q424 dJ9_init_2_10 (fun H locs hW hS => ?_)
  refine lv_istore (pc := 13) (lv' := [(4, .int w5), (3, .ref w2), (0, .ref o_), (1, .ref a0), (2, .null)]) hx hb dJ9_init_2_13 hl (by decide) rfl (fun ls hl => ?_)
  refine lv_aload_n (pc := 15) hx hb dJ9_init_2_15 rfl (lv_at hl 3 rfl) ?_
  obtain ⟨h7, hd⟩ := wt_ck_o hd
  obtain ⟨w8, hc9, hd⟩ := wt_bd_o hd
  refine kU_J7_isLatin1_14 (pc := 16) hx hb hml hown hts hC hW hS h7 hc9 hl.1 (Nat.le_of_ble_eq_true rfl) ⟨Nat.le_of_ble_eq_true rfl, Nat.le_of_ble_eq_true rfl⟩ ⟨Nat.le_of_ble_eq_true rfl, Nat.le_of_ble_eq_true rfl⟩ q432 dJ9_init_2_16 (fun H locs hW hS => ?_)
  refine lv_if_eq (pc := 19) (tgt := 41) hx hb dJ9_init_2_19 (by decide) (fun c10 => ?_) (fun c10 => ?_)
  · have hd := wt_it hd c10
    exact absurd hd (by intro h; cases h)
  · have hd := wt_if hd c10
    refine lv_aload_n (pc := 22) hx hb dJ9_init_2_22 rfl (lv_at hl 2 rfl) ?_
    refine lv_iconst (pc := 23) (v := 0) hx hb dJ9_init_2_23 (by decide) ?_
    obtain ⟨τ11, h12, hd⟩ := wt_bd_o hd
    refine hr_putF (pc := 24) (ty := .byte) hx hb hts hown hK hin2 hW hS h12 hf_15_1 (by decide +kernel) rfl rfl q488 dJ9_init_2_24 (fun H locs hW hS => ?_)
    refine lv_aload_n (pc := 27) hx hb dJ9_init_2_27 rfl (lv_at hl 2 rfl) ?_
    refine lv_aload_n (pc := 28) hx hb dJ9_init_2_28 rfl (lv_at hl 1 rfl) ?_
    refine lv_iconst (pc := 29) (v := 0) hx hb dJ9_init_2_29 (by decide) ?_
    refine lv_iload (pc := 30) hx hb dJ9_init_2_30 (lv_at hl 0 rfl) ?_
    obtain ⟨w13, hc14, hd⟩ := wt_bd_o hd
    refine kJ13_copyOfRange (pc := 32) hx hb hml hown hts hC hW hS hc14 hl.1 (Nat.le_of_ble_eq_true rfl) ⟨Nat.le_of_ble_eq_true rfl, Nat.le_of_ble_eq_true rfl⟩ ⟨(Nat.le_of_ble_eq_true rfl), (Nat.le_of_ble_eq_true rfl)⟩ q433 dJ9_init_2_32 (fun H locs hW hS => ?_)
    obtain ⟨τ15, h16, hd⟩ := wt_bd_o hd
    refine hr_putF (pc := 35) (ty := (.array .byte)) hx hb hts hown hK hin2 hW hS h16 hf_15_0 (by decide +kernel) rfl rfl q487 dJ9_init_2_35 (fun H locs hW hS => ?_)
    refine lv_goto (pc := 38) (tgt := 97) hx hb dJ9_init_2_38 (by decide) ?_
    exact hr_vret hx hb hr hlocks (Option.some.inj hd) hW hS dJ9_init_2_97 (Nat.le_of_ble_eq_true rfl) (Nat.le_of_ble_eq_true rfl)
theorem kJ9_init_2 {p : Program} {l : Launch} {e : Env} {R : Room} {s : State} {m : MethodId} {args : Array Value} {below : List Frame} {meth : Method} {c : Code} {H : Heap} {locs : List Loc} {cells slots : Nat} {Q : State → Prop} {cc : ByteArray} {pc : Nat} {ls : Array Slot} {rest : List Value} {nL : Nat} {own : String} {index : Nat} {G : HG} {A : Nat → Prop} {τ : HP} {o_ : Nat} {a0 : Nat} {out_ : HP} (hx : p.tables.exec = Jvm.exec) (hb : c.code = cc) (hml : c.maxLocals = nL) (hown : s.vm.findClass own = some m.cls) (hts : ∀ w ∈ lw_all, w.before args s = true) (hC : Hcx G A s) (hW : Hw G A τ H) (hS : va_S A s.heap H locs) (hd : eJ9_init_2 τ o_ a0 = some out_) (hsz : ls.size = nL) (hrm : (rest.map fun v => v.category).sum ≤ 8) (hR : 4 ≤ R.frames ∧ 102 ≤ R.locals) (hcs : (cells + 1) ≤ R.cells ∧ (slots + 16) ≤ R.slots) (hlk : Cond.methodLink own index yJ9_init_2 ∈ lw_all) (hdg : decode cc pc = .ok (.invokespecial index, 3)) (kk : ∀ (H1 : Heap) (locs1 : List Loc), Hw G A out_ H1 → va_S A s.heap H1 locs1 → W p l e R s m args below meth c H1 locs1 (cells + 1) (slots + 16) Q (F0 m (pc + 3) ls (rest))) : W p l e R s m args below meth c H locs cells slots Q (F0 m pc ls (.null :: .ref a0 :: .ref o_ :: rest)) := by
  refine va_callv (va_runI (As := [.ref a0, .null]) (rest := rest) ⟨hx, hb, hml, hown, hts⟩ (wJ9_init_2 l hd) (cwI 2 hts (lw_meth q417) rfl rfl rfl (hts _ q78) (hts _ hlk) (hts _ q416) rfl (by decide +kernel) hR) (hr_preS hC hW hS) rfl rfl hsz rfl (lv_room hrm) hdg hcs) hS (fun _ _ h => h) (fun _ h => h) (fun u t H1 locs1 ht hvm hp hB hz hk hS1 => ?_)
  have hW1 : Hw G A out_ t.heap := hB
  rw [ht] at hW1
  exact kk H1 locs1 hW1 hS1
noncomputable def eJ9_init (τ : HP) (o_ : Nat) (a0 : Nat) : Option (HP) :=
  wt_bd (eJ9_init_2 τ o_ a0) fun w1 => some w1
set_option maxHeartbeats 4000000 in
theorem wJ9_init (l : Launch) {G : HG} {A : Nat → Prop} {τ : HP} {o_ : Nat} {a0 : Nat} {out_ : HP} (hd : eJ9_init τ o_ a0 = some out_) : Met l yJ9_init (ws_ yJ9_init cJ9_init 2 none) ({ frames := 4, cells := 1, slots := 16, locals := 102 }) (hPc G A τ [.ref o_, .ref a0]) (hQv G out_ A) 1 16 A := by
  refine Met.ofW (cc := cJ9_init) (maxL := 2) (ret := none) (by decide) rfl ?_
  intro p_ e_ s_ m_ args_ below_ meth_ c_ s₁_ B hml hv
  obtain ⟨rfl, hW, hC⟩ := hv
  have hx := B.exec
  have hb := B.bytes
  have hr := B.returns
  have hts := atoms_spec (ws := (ws_ yJ9_init cJ9_init 2 none)) B.pre
  have hts : ∀ w ∈ lw_all, w.before _ s_ = true := fun w h => hts w (List.mem_cons_of_mem _ h)
  have hown : s_.vm.findClass RJ9 = some m_.cls := findClass_of_methodNamed B.named
  have hlocks := B.notSynchronized
  have hK := hC.1
  have hT := hC.2.1
  have hL := hC.2.2.1
  have hZ := hC.2.2.2.2.1
  have hA := hC.2.2.2.2.2
  have hin2 : meth_.name = "<init>" := (name_of_methodNamed B.named B.method).1
  have hS : va_S A s_.heap s_.heap [] := va_S.rf
  have hl := lv_entry ([.ref o_, .ref a0]) (n := 2) (Nat.le_of_ble_eq_true rfl)
  rw [lg_entry_eq]
  generalize (lg_sl ([.ref o_, .ref a0]) ++ List.replicate (2 - (lg_sl ([.ref o_, .ref a0])).length) Slot.unset).toArray = ls at hl ⊢
  have hl : lv_has ls 2 [(0, .ref o_), (1, .ref a0)] := hl
  unfold eJ9_init at hd
  refine lv_aload_n (pc := 0) hx hb dJ9_init_0 rfl (lv_at hl 0 rfl) ?_
  refine lv_aload_n (pc := 1) hx hb dJ9_init_1 rfl (lv_at hl 1 rfl) ?_
  refine lv_null (pc := 2) hx hb dJ9_init_2 ?_
  obtain ⟨w1, hc2, hd⟩ := wt_bd_o hd
  refine kJ9_init_2 (pc := 3) hx hb hml hown hts hC hW hS hc2 hl.1 (Nat.le_of_ble_eq_true rfl) ⟨Nat.le_of_ble_eq_true rfl, Nat.le_of_ble_eq_true rfl⟩ ⟨(Nat.le_of_ble_eq_true rfl), (Nat.le_of_ble_eq_true rfl)⟩ q415 dJ9_init_3 (fun H locs hW hS => ?_)
  exact hr_vret hx hb hr hlocks (Option.some.inj hd) hW hS dJ9_init_6 (Nat.le_of_ble_eq_true rfl) (Nat.le_of_ble_eq_true rfl)
theorem kJ9_init {p : Program} {l : Launch} {e : Env} {R : Room} {s : State} {m : MethodId} {args : Array Value} {below : List Frame} {meth : Method} {c : Code} {H : Heap} {locs : List Loc} {cells slots : Nat} {Q : State → Prop} {cc : ByteArray} {pc : Nat} {ls : Array Slot} {rest : List Value} {nL : Nat} {own : String} {index : Nat} {G : HG} {A : Nat → Prop} {τ : HP} {o_ : Nat} {a0 : Nat} {out_ : HP} (hx : p.tables.exec = Jvm.exec) (hb : c.code = cc) (hml : c.maxLocals = nL) (hown : s.vm.findClass own = some m.cls) (hts : ∀ w ∈ lw_all, w.before args s = true) (hC : Hcx G A s) (hW : Hw G A τ H) (hS : va_S A s.heap H locs) (hd : eJ9_init τ o_ a0 = some out_) (hsz : ls.size = nL) (hrm : (rest.map fun v => v.category).sum ≤ 8) (hR : 5 ≤ R.frames ∧ 123 ≤ R.locals) (hcs : (cells + 1) ≤ R.cells ∧ (slots + 16) ≤ R.slots) (hlk : Cond.methodLink own index yJ9_init ∈ lw_all) (hdg : decode cc pc = .ok (.invokespecial index, 3)) (kk : ∀ (H1 : Heap) (locs1 : List Loc), Hw G A out_ H1 → va_S A s.heap H1 locs1 → W p l e R s m args below meth c H1 locs1 (cells + 1) (slots + 16) Q (F0 m (pc + 3) ls (rest))) : W p l e R s m args below meth c H locs cells slots Q (F0 m pc ls (.ref a0 :: .ref o_ :: rest)) := by
  refine va_callv (va_runI (As := [.ref a0]) (rest := rest) ⟨hx, hb, hml, hown, hts⟩ (wJ9_init l hd) (cwI 1 hts (lw_meth q414) rfl rfl rfl (hts _ q78) (hts _ hlk) (hts _ q413) rfl (by decide +kernel) hR) (hr_preS hC hW hS) rfl rfl hsz rfl (lv_room hrm) hdg hcs) hS (fun _ _ h => h) (fun _ h => h) (fun u t H1 locs1 ht hvm hp hB hz hk hS1 => ?_)
  have hW1 : Hw G A out_ t.heap := hB
  rw [ht] at hW1
  exact kk H1 locs1 hW1 hS1
noncomputable def eJ8_toString (τ : HP) (o_ : Nat) : Option (Nat × HP) :=
  wt_lt (hnew τ (.inr (15, [.null, .int 0, .int 0, .int 0]))) fun τ1 => wt_bd (eJ9_init τ1 τ.2 o_) fun w2 => some (τ.2, w2)
set_option maxHeartbeats 4000000 in
theorem wJ8_toString (l : Launch) {G : HG} {A : Nat → Prop} {τ : HP} {o_ : Nat} {out_ : Nat × HP} (hd : eJ8_toString τ o_ = some out_) : Met l yJ8_toString (ws_ yJ8_toString cJ8_toString 1 (some (.object "java/lang/String"))) ({ frames := 5, cells := 2, slots := 20, locals := 123 }) (hPc G A τ [.ref o_]) (hQr G out_.1 out_.2 A) 2 20 A := by
  refine Met.ofW (cc := cJ8_toString) (maxL := 1) (ret := (some (.object "java/lang/String"))) (by decide) rfl ?_
  intro p_ e_ s_ m_ args_ below_ meth_ c_ s₁_ B hml hv
  obtain ⟨rfl, hW, hC⟩ := hv
  have hx := B.exec
  have hb := B.bytes
  have hr := B.returns
  have hts := atoms_spec (ws := (ws_ yJ8_toString cJ8_toString 1 (some (.object "java/lang/String")))) B.pre
  have hts : ∀ w ∈ lw_all, w.before _ s_ = true := fun w h => hts w (List.mem_cons_of_mem _ h)
  have hown : s_.vm.findClass RJ8 = some m_.cls := findClass_of_methodNamed B.named
  have hlocks := B.notSynchronized
  have hK := hC.1
  have hT := hC.2.1
  have hL := hC.2.2.1
  have hZ := hC.2.2.2.2.1
  have hA := hC.2.2.2.2.2
  have hS : va_S A s_.heap s_.heap [] := va_S.rf
  have hl := lv_entry ([.ref o_]) (n := 1) (Nat.le_of_ble_eq_true rfl)
  rw [lg_entry_eq]
  generalize (lg_sl ([.ref o_]) ++ List.replicate (1 - (lg_sl ([.ref o_])).length) Slot.unset).toArray = ls at hl ⊢
  have hl : lv_has ls 1 [(0, .ref o_)] := hl
  unfold eJ8_toString at hd
  obtain ⟨τ1, eτ1, hd⟩ := wt_lt_o hd
  refine hr_new (pc := 0) (ci := 15) (fs := [.null, .int 0, .int 0, .int 0]) hx hb hts hown hK hW hS hA rfl tyJ9 tyJ9_ok (by decide +kernel) q410 q411 q78 eτ1 (Nat.le_of_ble_eq_true rfl) (Nat.le_of_ble_eq_true rfl) dJ8_toString_0 (fun H hW hS => ?_)
  refine lv_dup (pc := 3) hx hb dJ8_toString_3 rfl ?_
  refine lv_aload_n (pc := 4) hx hb dJ8_toString_4 rfl (lv_at hl 0 rfl) ?_
  obtain ⟨w2, hc3, hd⟩ := wt_bd_o hd
  refine kJ9_init (pc := 5) hx hb hml hown hts hC hW hS hc3 hl.1 (Nat.le_of_ble_eq_true rfl) ⟨Nat.le_of_ble_eq_true rfl, Nat.le_of_ble_eq_true rfl⟩ ⟨(Nat.le_of_ble_eq_true rfl), (Nat.le_of_ble_eq_true rfl)⟩ q412 dJ8_toString_5 (fun H locs hW hS => ?_)
  exact hr_aret hx hb hr (Or.inl ⟨_, rfl⟩) hlocks (wt_p1 hd) (wt_p2 hd) hW hS dJ8_toString_8 (Nat.le_of_ble_eq_true rfl) (Nat.le_of_ble_eq_true rfl)
theorem kJ8_toString {p : Program} {l : Launch} {e : Env} {R : Room} {s : State} {m : MethodId} {args : Array Value} {below : List Frame} {meth : Method} {c : Code} {H : Heap} {locs : List Loc} {cells slots : Nat} {Q : State → Prop} {cc : ByteArray} {pc : Nat} {ls : Array Slot} {rest : List Value} {nL : Nat} {own : String} {index : Nat} {G : HG} {A : Nat → Prop} {τ : HP} {o_ : Nat} {out_ : Nat × HP} (hx : p.tables.exec = Jvm.exec) (hb : c.code = cc) (hml : c.maxLocals = nL) (hown : s.vm.findClass own = some m.cls) (hts : ∀ w ∈ lw_all, w.before args s = true) (hC : Hcx G A s) (hW : Hw G A τ H) (hS : va_S A s.heap H locs) (hrc : hcl τ o_ = some 14) (hd : eJ8_toString τ o_ = some out_) (hsz : ls.size = nL) (hrm : (rest.map fun v => v.category).sum ≤ 8) (hR : 6 ≤ R.frames ∧ 143 ≤ R.locals) (hcs : (cells + 2) ≤ R.cells ∧ (slots + 20) ≤ R.slots) (hlk : Cond.methodLink own index yJ8_toString ∈ lw_all) (hdg : decode cc pc = .ok (.invokevirtual index, 3)) (kk : ∀ (H1 : Heap) (locs1 : List Loc), Hw G A out_.2 H1 → va_S A s.heap H1 locs1 → W p l e R s m args below meth c H1 locs1 (cells + 2) (slots + 20) Q (F0 m (pc + 3) ls (.ref out_.1 :: rest))) : W p l e R s m args below meth c H locs cells slots Q (F0 m pc ls (.ref o_ :: rest)) := by
  refine va_callr (va_runV (As := []) (rest := rest) ⟨hx, hb, hml, hown, hts⟩ (wJ8_toString l hd) (cwV 0 hts (lw_V hlk q407 q408 q77 q409) rfl rfl rfl (by decide +kernel) hR) (hr_preV hC hW hS hrc rfl rfl) rfl rfl hsz rfl (lv_room hrm) hdg hcs) hS (fun _ _ h => h) (fun _ h => h) (fun u ra t H1 locs1 ht hvm hp hB hz hk hS1 => ?_)
  have hp : ra = out_.1 := hB.1
  subst hp
  have hW1 : Hw G A out_.2 t.heap := hB.2
  rw [ht] at hW1
  exact kk H1 locs1 hW1 hS1
noncomputable def eJ9_coder (τ : HP) (o_ : Nat) : Option (Int32) :=
  if (1 : Int32) = 0 then (none) else (wt_bd (hgI τ o_ [15] 1) fun f2 => wt_ck (narrow .byte (.int f2) = Value.int f2) <| some f2)
set_option maxHeartbeats 4000000 in
theorem wJ9_coder (l : Launch) {G : HG} {A : Nat → Prop} {τ : HP} {o_ : Nat} {out_ : Int32} (hd : eJ9_coder τ o_ = some out_) : Met l yJ9_coder (ws_ yJ9_coder cJ9_coder 1 (some .byte)) ({ frames := 0, cells := 0, slots := 0, locals := 0 }) (hPc G A τ [.ref o_]) (hQi G out_ τ A) 0 0 A := by
  refine Met.ofW (cc := cJ9_coder) (maxL := 1) (ret := (some .byte)) (by decide) rfl ?_
  intro p_ e_ s_ m_ args_ below_ meth_ c_ s₁_ B hml hv
  obtain ⟨rfl, hW, hC⟩ := hv
  have hx := B.exec
  have hb := B.bytes
  have hr := B.returns
  have hts := atoms_spec (ws := (ws_ yJ9_coder cJ9_coder 1 (some .byte))) B.pre
  have hts : ∀ w ∈ lw_all, w.before _ s_ = true := fun w h => hts w (List.mem_cons_of_mem _ h)
  have hown : s_.vm.findClass RJ9 = some m_.cls := findClass_of_methodNamed B.named
  have hlocks := B.notSynchronized
  have hK := hC.1
  have hT := hC.2.1
  have hL := hC.2.2.1
  have hZ := hC.2.2.2.2.1
  have hA := hC.2.2.2.2.2
  have hS : va_S A s_.heap s_.heap [] := va_S.rf
  have hl := lv_entry ([.ref o_]) (n := 1) (Nat.le_of_ble_eq_true rfl)
  rw [lg_entry_eq]
  generalize (lg_sl ([.ref o_]) ++ List.replicate (1 - (lg_sl ([.ref o_])).length) Slot.unset).toArray = ls at hl ⊢
  have hl : lv_has ls 1 [(0, .ref o_)] := hl
  unfold eJ9_coder at hd
  refine va_gets (pc := 0) hx hb hZ.1 hS hown (hts _ q346) (fun _ h => h) dJ9_coder_0 ?_
  refine lv_if_eq (pc := 3) (tgt := 13) hx hb dJ9_coder_3 (by decide) (fun c1 => ?_) (fun c1 => ?_)
  · have hd := wt_it hd c1
    exact absurd hd (by intro h; cases h)
  · have hd := wt_if hd c1
    refine lv_aload_n (pc := 6) hx hb dJ9_coder_6 rfl (lv_at hl 0 rfl) ?_
    obtain ⟨f2, h3, hd⟩ := wt_bd_o hd
    refine hr_get (pc := 7) hx hb hts hown hK hW (hgI_o h3) hf_15_1 (fun _ h => h) q488 dJ9_coder_7 ?_
    refine lv_goto (pc := 10) (tgt := 14) hx hb dJ9_coder_10 (by decide) ?_
    obtain ⟨h4, hd⟩ := wt_ck_o hd
    exact hr_iret hx hb hr h4 hlocks (Option.some.inj hd) rfl hW hS dJ9_coder_14 (Nat.le_of_ble_eq_true rfl) (Nat.le_of_ble_eq_true rfl)
theorem kJ9_coder {p : Program} {l : Launch} {e : Env} {R : Room} {s : State} {m : MethodId} {args : Array Value} {below : List Frame} {meth : Method} {c : Code} {H : Heap} {locs : List Loc} {cells slots : Nat} {Q : State → Prop} {cc : ByteArray} {pc : Nat} {ls : Array Slot} {rest : List Value} {nL : Nat} {own : String} {index : Nat} {G : HG} {A : Nat → Prop} {τ : HP} {o_ : Nat} {out_ : Int32} (hx : p.tables.exec = Jvm.exec) (hb : c.code = cc) (hml : c.maxLocals = nL) (hown : s.vm.findClass own = some m.cls) (hts : ∀ w ∈ lw_all, w.before args s = true) (hC : Hcx G A s) (hW : Hw G A τ H) (hS : va_S A s.heap H locs) (hrc : hcl τ o_ = some 15) (hd : eJ9_coder τ o_ = some out_) (hsz : ls.size = nL) (hrm : (rest.map fun v => v.category).sum ≤ 8) (hR : 1 ≤ R.frames ∧ 20 ≤ R.locals) (hcs : cells ≤ R.cells ∧ slots ≤ R.slots) (hlk : Cond.methodLink own index yJ9_coder ∈ lw_all) (hdg : decode cc pc = .ok (.invokevirtual index, 3)) (kk : ∀ (H1 : Heap) (locs1 : List Loc), Hw G A τ H1 → va_S A s.heap H1 locs1 → W p l e R s m args below meth c H1 locs1 cells slots Q (F0 m (pc + 3) ls (.int out_ :: rest))) : W p l e R s m args below meth c H locs cells slots Q (F0 m pc ls (.ref o_ :: rest)) := by
  refine va_calli (va_runV (As := []) (rest := rest) ⟨hx, hb, hml, hown, hts⟩ (wJ9_coder l hd) (cwV 0 hts (lw_V hlk q343 q344 q78 q345) rfl rfl rfl (by decide +kernel) hR) (hr_preV hC hW hS hrc rfl rfl) rfl rfl hsz rfl (lv_room hrm) hdg hcs) hS (fun _ _ h => h) (fun _ h => h) (fun r u t H1 locs1 ht hvm hp hB hz hk hS1 => ?_)
  have hp : r = out_ := hp
  subst hp
  have hW1 : Hw G A τ t.heap := hB
  rw [ht] at hW1
  exact kk H1 locs1 hW1 hS1
noncomputable def eJ9_isLatin1 (τ : HP) (o_ : Nat) : Option (Int32) :=
  if (1 : Int32) = 0 then (some (0 : Int32)) else (wt_bd (hgI τ o_ [15] 1) fun f2 => if f2 = 0 then (some (1 : Int32)) else (some (0 : Int32)))
set_option maxHeartbeats 4000000 in
theorem wJ9_isLatin1 (l : Launch) {G : HG} {A : Nat → Prop} {τ : HP} {o_ : Nat} {out_ : Int32} (hd : eJ9_isLatin1 τ o_ = some out_) : Met l yJ9_isLatin1 (ws_ yJ9_isLatin1 cJ9_isLatin1 1 (some .boolean)) ({ frames := 0, cells := 0, slots := 0, locals := 0 }) (hPc G A τ [.ref o_]) (hQi G out_ τ A) 0 0 A := by
  refine Met.ofW (cc := cJ9_isLatin1) (maxL := 1) (ret := (some .boolean)) (by decide) rfl ?_
  intro p_ e_ s_ m_ args_ below_ meth_ c_ s₁_ B hml hv
  obtain ⟨rfl, hW, hC⟩ := hv
  have hx := B.exec
  have hb := B.bytes
  have hr := B.returns
  have hts := atoms_spec (ws := (ws_ yJ9_isLatin1 cJ9_isLatin1 1 (some .boolean))) B.pre
  have hts : ∀ w ∈ lw_all, w.before _ s_ = true := fun w h => hts w (List.mem_cons_of_mem _ h)
  have hown : s_.vm.findClass RJ9 = some m_.cls := findClass_of_methodNamed B.named
  have hlocks := B.notSynchronized
  have hK := hC.1
  have hT := hC.2.1
  have hL := hC.2.2.1
  have hZ := hC.2.2.2.2.1
  have hA := hC.2.2.2.2.2
  have hS : va_S A s_.heap s_.heap [] := va_S.rf
  have hl := lv_entry ([.ref o_]) (n := 1) (Nat.le_of_ble_eq_true rfl)
  rw [lg_entry_eq]
  generalize (lg_sl ([.ref o_]) ++ List.replicate (1 - (lg_sl ([.ref o_])).length) Slot.unset).toArray = ls at hl ⊢
  have hl : lv_has ls 1 [(0, .ref o_)] := hl
  unfold eJ9_isLatin1 at hd
  refine va_gets (pc := 0) hx hb hZ.1 hS hown (hts _ q346) (fun _ h => h) dJ9_isLatin1_0 ?_
  refine lv_if_eq (pc := 3) (tgt := 17) hx hb dJ9_isLatin1_3 (by decide) (fun c1 => ?_) (fun c1 => ?_)
  · have hd := wt_it hd c1
    refine lv_iconst (pc := 17) (v := 0) hx hb dJ9_isLatin1_17 (by decide) ?_
    exact hr_iret hx hb hr rfl hlocks (Option.some.inj hd) rfl hW hS dJ9_isLatin1_18 (Nat.le_of_ble_eq_true rfl) (Nat.le_of_ble_eq_true rfl)
  · have hd := wt_if hd c1
    refine lv_aload_n (pc := 6) hx hb dJ9_isLatin1_6 rfl (lv_at hl 0 rfl) ?_
    obtain ⟨f2, h3, hd⟩ := wt_bd_o hd
    refine hr_get (pc := 7) hx hb hts hown hK hW (hgI_o h3) hf_15_1 (fun _ h => h) q488 dJ9_isLatin1_7 ?_
    refine lv_if_ne (pc := 10) (tgt := 17) hx hb dJ9_isLatin1_10 (by decide) (fun c4 => ?_) (fun c4 => ?_)
    · have hd := wt_if hd c4
      refine lv_iconst (pc := 17) (v := 0) hx hb dJ9_isLatin1_17 (by decide) ?_
      exact hr_iret hx hb hr rfl hlocks (Option.some.inj hd) rfl hW hS dJ9_isLatin1_18 (Nat.le_of_ble_eq_true rfl) (Nat.le_of_ble_eq_true rfl)
    · have hd := wt_it hd c4
      refine lv_iconst (pc := 13) (v := 1) hx hb dJ9_isLatin1_13 (by decide) ?_
      refine lv_goto (pc := 14) (tgt := 18) hx hb dJ9_isLatin1_14 (by decide) ?_
      exact hr_iret hx hb hr rfl hlocks (Option.some.inj hd) rfl hW hS dJ9_isLatin1_18 (Nat.le_of_ble_eq_true rfl) (Nat.le_of_ble_eq_true rfl)
theorem kJ9_isLatin1 {p : Program} {l : Launch} {e : Env} {R : Room} {s : State} {m : MethodId} {args : Array Value} {below : List Frame} {meth : Method} {c : Code} {H : Heap} {locs : List Loc} {cells slots : Nat} {Q : State → Prop} {cc : ByteArray} {pc : Nat} {ls : Array Slot} {rest : List Value} {nL : Nat} {own : String} {index : Nat} {G : HG} {A : Nat → Prop} {τ : HP} {o_ : Nat} {out_ : Int32} (hx : p.tables.exec = Jvm.exec) (hb : c.code = cc) (hml : c.maxLocals = nL) (hown : s.vm.findClass own = some m.cls) (hts : ∀ w ∈ lw_all, w.before args s = true) (hC : Hcx G A s) (hW : Hw G A τ H) (hS : va_S A s.heap H locs) (hrc : hcl τ o_ = some 15) (hd : eJ9_isLatin1 τ o_ = some out_) (hsz : ls.size = nL) (hrm : (rest.map fun v => v.category).sum ≤ 8) (hR : 1 ≤ R.frames ∧ 20 ≤ R.locals) (hcs : cells ≤ R.cells ∧ slots ≤ R.slots) (hlk : Cond.methodLink own index yJ9_isLatin1 ∈ lw_all) (hdg : decode cc pc = .ok (.invokevirtual index, 3)) (kk : ∀ (H1 : Heap) (locs1 : List Loc), Hw G A τ H1 → va_S A s.heap H1 locs1 → W p l e R s m args below meth c H1 locs1 cells slots Q (F0 m (pc + 3) ls (.int out_ :: rest))) : W p l e R s m args below meth c H locs cells slots Q (F0 m pc ls (.ref o_ :: rest)) := by
  refine va_calli (va_runV (As := []) (rest := rest) ⟨hx, hb, hml, hown, hts⟩ (wJ9_isLatin1 l hd) (cwV 0 hts (lw_V hlk q756 q757 q78 q758) rfl rfl rfl (by decide +kernel) hR) (hr_preV hC hW hS hrc rfl rfl) rfl rfl hsz rfl (lv_room hrm) hdg hcs) hS (fun _ _ h => h) (fun _ h => h) (fun r u t H1 locs1 ht hvm hp hB hz hk hS1 => ?_)
  have hp : r = out_ := hp
  subst hp
  have hW1 : Hw G A τ t.heap := hB
  rw [ht] at hW1
  exact kk H1 locs1 hW1 hS1
noncomputable def eJ9_length (τ : HP) (o_ : Nat) : Option (Int32) :=
  wt_bd (hgA τ o_ [15] 0) fun ad1 => wt_bd (hln τ ad1 1) fun m3 => wt_ck (hcl τ o_ = some 15) <| wt_bd (eJ9_coder τ o_) fun w6 => some ((Int32.ofNat m3) >>> (w6 &&& 31))
set_option maxHeartbeats 4000000 in
theorem wJ9_length (l : Launch) {G : HG} {A : Nat → Prop} {τ : HP} {o_ : Nat} {out_ : Int32} (hd : eJ9_length τ o_ = some out_) : Met l yJ9_length (ws_ yJ9_length cJ9_length 1 (some .int)) ({ frames := 1, cells := 0, slots := 0, locals := 20 }) (hPc G A τ [.ref o_]) (hQi G out_ τ A) 0 0 A := by
  refine Met.ofW (cc := cJ9_length) (maxL := 1) (ret := (some .int)) (by decide) rfl ?_
  intro p_ e_ s_ m_ args_ below_ meth_ c_ s₁_ B hml hv
  obtain ⟨rfl, hW, hC⟩ := hv
  have hx := B.exec
  have hb := B.bytes
  have hr := B.returns
  have hts := atoms_spec (ws := (ws_ yJ9_length cJ9_length 1 (some .int))) B.pre
  have hts : ∀ w ∈ lw_all, w.before _ s_ = true := fun w h => hts w (List.mem_cons_of_mem _ h)
  have hown : s_.vm.findClass RJ9 = some m_.cls := findClass_of_methodNamed B.named
  have hlocks := B.notSynchronized
  have hK := hC.1
  have hT := hC.2.1
  have hL := hC.2.2.1
  have hZ := hC.2.2.2.2.1
  have hA := hC.2.2.2.2.2
  have hS : va_S A s_.heap s_.heap [] := va_S.rf
  have hl := lv_entry ([.ref o_]) (n := 1) (Nat.le_of_ble_eq_true rfl)
  rw [lg_entry_eq]
  generalize (lg_sl ([.ref o_]) ++ List.replicate (1 - (lg_sl ([.ref o_])).length) Slot.unset).toArray = ls at hl ⊢
  have hl : lv_has ls 1 [(0, .ref o_)] := hl
  unfold eJ9_length at hd
  refine lv_aload_n (pc := 0) hx hb dJ9_length_0 rfl (lv_at hl 0 rfl) ?_
  obtain ⟨ad1, h2, hd⟩ := wt_bd_o hd
  refine hr_get (pc := 1) hx hb hts hown hK hW (hgA_o h2) hf_15_0 (fun _ h => h) q487 dJ9_length_1 ?_
  obtain ⟨m3, h4, hd⟩ := wt_bd_o hd
  refine hr_alen (pc := 4) (t := 1) hx hb hK hW h4 rfl rfl dJ9_length_4 ?_
  refine lv_aload_n (pc := 5) hx hb dJ9_length_5 rfl (lv_at hl 0 rfl) ?_
  obtain ⟨h5, hd⟩ := wt_ck_o hd
  obtain ⟨w6, hc7, hd⟩ := wt_bd_o hd
  refine kJ9_coder (pc := 6) hx hb hml hown hts hC hW hS h5 hc7 hl.1 (Nat.le_of_ble_eq_true rfl) ⟨Nat.le_of_ble_eq_true rfl, Nat.le_of_ble_eq_true rfl⟩ ⟨Nat.le_of_ble_eq_true rfl, Nat.le_of_ble_eq_true rfl⟩ q342 dJ9_length_6 (fun H locs hW hS => ?_)
  refine lv_ishr (pc := 9) hx hb dJ9_length_9 ?_
  exact hr_iret hx hb hr rfl hlocks (Option.some.inj hd) rfl hW hS dJ9_length_10 (Nat.le_of_ble_eq_true rfl) (Nat.le_of_ble_eq_true rfl)
theorem kJ9_length {p : Program} {l : Launch} {e : Env} {R : Room} {s : State} {m : MethodId} {args : Array Value} {below : List Frame} {meth : Method} {c : Code} {H : Heap} {locs : List Loc} {cells slots : Nat} {Q : State → Prop} {cc : ByteArray} {pc : Nat} {ls : Array Slot} {rest : List Value} {nL : Nat} {own : String} {index : Nat} {G : HG} {A : Nat → Prop} {τ : HP} {o_ : Nat} {out_ : Int32} (hx : p.tables.exec = Jvm.exec) (hb : c.code = cc) (hml : c.maxLocals = nL) (hown : s.vm.findClass own = some m.cls) (hts : ∀ w ∈ lw_all, w.before args s = true) (hC : Hcx G A s) (hW : Hw G A τ H) (hS : va_S A s.heap H locs) (hrc : hcl τ o_ = some 15) (hd : eJ9_length τ o_ = some out_) (hsz : ls.size = nL) (hrm : (rest.map fun v => v.category).sum ≤ 8) (hR : 2 ≤ R.frames ∧ 40 ≤ R.locals) (hcs : cells ≤ R.cells ∧ slots ≤ R.slots) (hlk : Cond.methodLink own index yJ9_length ∈ lw_all) (hdg : decode cc pc = .ok (.invokevirtual index, 3)) (kk : ∀ (H1 : Heap) (locs1 : List Loc), Hw G A τ H1 → va_S A s.heap H1 locs1 → W p l e R s m args below meth c H1 locs1 cells slots Q (F0 m (pc + 3) ls (.int out_ :: rest))) : W p l e R s m args below meth c H locs cells slots Q (F0 m pc ls (.ref o_ :: rest)) := by
  refine va_calli (va_runV (As := []) (rest := rest) ⟨hx, hb, hml, hown, hts⟩ (wJ9_length l hd) (cwV 0 hts (lw_V hlk q339 q340 q78 q341) rfl rfl rfl (by decide +kernel) hR) (hr_preV hC hW hS hrc rfl rfl) rfl rfl hsz rfl (lv_room hrm) hdg hcs) hS (fun _ _ h => h) (fun _ h => h) (fun r u t H1 locs1 ht hvm hp hB hz hk hS1 => ?_)
  have hp : r = out_ := hp
  subst hp
  have hW1 : Hw G A τ t.heap := hB
  rw [ht] at hW1
  exact kk H1 locs1 hW1 hS1
noncomputable def bJ15_equals_1 (τ : HP) (a0 : Nat) (a1 : Nat) (v6 : Int32) : Option ((Int32) ⊕ ((Unit) ⊕ (Int32))) :=
  wt_bd (hln τ a0 1) fun m16 => if (Int32.ofNat m16) ≤ v6 then (some (.inr (.inl ()))) else (wt_bd (haI τ a0 1) fun z19 => wt_ck (vp_in v6 z19.1) <| wt_bd (haI τ a1 5) fun z22 => wt_ck (vp_in v6 z22.1) <| if (z19.2 v6.toNatClampNeg) = (z22.2 v6.toNatClampNeg) then (wt_lt (v6 + (1 : Int32)) fun n26 => some (.inl n26)) else (some (.inr (.inr (0 : Int32)))))
noncomputable def eJ15_equals (τ : HP) (a0 : Nat) (a1 : Nat) : Option (Int32) :=
  wt_bd (hln τ a0 1) fun m1 => wt_bd (hln τ a1 5) fun m3 => if (Int32.ofNat m1) = (Int32.ofNat m3) then (wt_bd (wt_whC (bJ15_equals_1 τ a0 a1) (0 : Int32)) fun w7 => wt_rs w7 (fun w7 => some (1 : Int32)) (fun z_ => some z_)) else (some (0 : Int32))
set_option maxHeartbeats 4000000 in
theorem wJ15_equals (l : Launch) {G : HG} {A : Nat → Prop} {τ : HP} {a0 : Nat} {a1 : Nat} {out_ : Int32} (hd : eJ15_equals τ a0 a1 = some out_) : Met l yJ15_equals (ws_ yJ15_equals cJ15_equals 3 (some .boolean)) ({ frames := 0, cells := 0, slots := 0, locals := 0 }) (hPc G A τ [.ref a0, .ref a1]) (hQi G out_ τ A) 0 0 A := by
  refine Met.ofW (cc := cJ15_equals) (maxL := 3) (ret := (some .boolean)) (by decide) rfl ?_
  intro p_ e_ s_ m_ args_ below_ meth_ c_ s₁_ B hml hv
  obtain ⟨rfl, hW, hC⟩ := hv
  have hx := B.exec
  have hb := B.bytes
  have hr := B.returns
  have hts := atoms_spec (ws := (ws_ yJ15_equals cJ15_equals 3 (some .boolean))) B.pre
  have hts : ∀ w ∈ lw_all, w.before _ s_ = true := fun w h => hts w (List.mem_cons_of_mem _ h)
  have hown : s_.vm.findClass RJ15 = some m_.cls := findClass_of_methodNamed B.named
  have hlocks := B.notSynchronized
  have hK := hC.1
  have hT := hC.2.1
  have hL := hC.2.2.1
  have hZ := hC.2.2.2.2.1
  have hA := hC.2.2.2.2.2
  have hS : va_S A s_.heap s_.heap [] := va_S.rf
  have hl := lv_entry ([.ref a0, .ref a1]) (n := 3) (Nat.le_of_ble_eq_true rfl)
  rw [lg_entry_eq]
  generalize (lg_sl ([.ref a0, .ref a1]) ++ List.replicate (3 - (lg_sl ([.ref a0, .ref a1])).length) Slot.unset).toArray = ls at hl ⊢
  have hl : lv_has ls 3 [(0, .ref a0), (1, .ref a1)] := hl
  unfold eJ15_equals at hd
  refine lv_aload_n (pc := 0) hx hb dJ15_equals_0 rfl (lv_at hl 0 rfl) ?_
  obtain ⟨m1, h2, hd⟩ := wt_bd_o hd
  refine hr_alen (pc := 1) (t := 1) hx hb hK hW h2 rfl rfl dJ15_equals_1 ?_
  refine lv_aload_n (pc := 2) hx hb dJ15_equals_2 rfl (lv_at hl 1 rfl) ?_
  obtain ⟨m3, h4, hd⟩ := wt_bd_o hd
  refine hr_alen (pc := 3) (t := 5) hx hb hK hW h4 rfl rfl dJ15_equals_3 ?_
  refine lv_icmp_ne (pc := 4) (tgt := 34) hx hb dJ15_equals_4 (by decide) (fun c5 => ?_) (fun c5 => ?_)
  · have hd := wt_if hd c5
    refine lv_iconst (pc := 34) (v := 0) hx hb dJ15_equals_34 (by decide) ?_
    exact hr_iret hx hb hr rfl hlocks (Option.some.inj hd) rfl hW hS dJ15_equals_35 (Nat.le_of_ble_eq_true rfl) (Nat.le_of_ble_eq_true rfl)
  · have hd := wt_it hd c5
    refine lv_iconst (pc := 7) (v := 0) hx hb dJ15_equals_7 (by decide) ?_
    refine lv_istore_n (pc := 8) (lv' := [(2, .int (0 : Int32)), (0, .ref a0), (1, .ref a1)]) hx hb dJ15_equals_8 rfl hl (by decide) rfl (fun ls hl => ?_)
    obtain ⟨w7, hL8, hq9⟩ := wt_bd_o hd
    have hX10 : ∀ w7_ : Unit, (Sum.inl w7_ : (Unit) ⊕ _) = w7 → ∀ (H : Heap) (locs : List Loc) (ls : Array Slot), Hw G A τ H → va_S A s_.heap H locs → lv_has ls 3 [] → W p_ l e_ (headSpec (ws_ yJ15_equals cJ15_equals 3 (some .boolean)) ({ frames := 0, cells := 0, slots := 0, locals := 0 })).room s_ m_ ([.ref a0, .ref a1] : List Value).toArray below_ meth_ c_ H locs 0 0 (MQ below_ (hQi G out_ τ A) ([.ref a0, .ref a1] : List Value).toArray s_ 0 0 A) (F0 m_ 32 ls []) := by
      intro w7_ hw_
      have hd := wt_rs_l hw_ hq9
      clear hL8 hq9
      intro H locs ls hW hS hl
      refine lv_iconst (pc := 32) (v := 1) hx hb dJ15_equals_32 (by decide) ?_
      exact hr_iret hx hb hr rfl hlocks (Option.some.inj hd) rfl hW hS dJ15_equals_33 (Nat.le_of_ble_eq_true rfl) (Nat.le_of_ble_eq_true rfl)
    have hI15 : ∀ (k14 : Nat) (v6 : Int32), wt_wh (bJ15_equals_1 τ a0 a1) k14 v6 = some w7 → ∀ (H : Heap) (locs : List Loc) (ls : Array Slot), Hw G A τ H → va_S A s_.heap H locs → lv_has ls 3 [(0, .ref a0), (1, .ref a1), (2, .int v6)] → W p_ l e_ (headSpec (ws_ yJ15_equals cJ15_equals 3 (some .boolean)) ({ frames := 0, cells := 0, slots := 0, locals := 0 })).room s_ m_ ([.ref a0, .ref a1] : List Value).toArray below_ meth_ c_ H locs 0 0 (MQ below_ (hQi G out_ τ A) ([.ref a0, .ref a1] : List Value).toArray s_ 0 0 A) (F0 m_ 9 ls []) := by
      intro k14
      induction k14 with
      | zero => intro v6 hd; exact absurd hd wt_wh_z
      | succ k14 ih12 =>
        intro v6 hd
        intro H locs ls hW hS hl
        obtain ⟨r13, hd, hk11⟩ := wt_wh_o hd
        unfold bJ15_equals_1 at hd
        refine lv_iload_n (pc := 9) hx hb dJ15_equals_9 rfl (lv_at hl 2 rfl) ?_
        refine lv_aload_n (pc := 10) hx hb dJ15_equals_10 rfl (lv_at hl 0 rfl) ?_
        obtain ⟨m16, h17, hd⟩ := wt_bd_o hd
        refine hr_alen (pc := 11) (t := 1) hx hb hK hW h17 rfl rfl dJ15_equals_11 ?_
        refine lv_icmp_ge (pc := 12) (tgt := 32) hx hb dJ15_equals_12 (by decide) (fun c18 => ?_) (fun c18 => ?_)
        · have hd := wt_it hd c18
          exact hX10 () (wt_exit hd hk11) _ _ _ hW hS (lv_sub hl [] rfl)
        · have hd := wt_if hd c18
          refine lv_aload_n (pc := 15) hx hb dJ15_equals_15 rfl (lv_at hl 0 rfl) ?_
          refine lv_iload_n (pc := 16) hx hb dJ15_equals_16 rfl (lv_at hl 2 rfl) ?_
          obtain ⟨z19, h20, hd⟩ := wt_bd_o hd
          obtain ⟨h21, hd⟩ := wt_ck_o hd
          refine hr_bald (pc := 17) (t := 1) hx hb hK hW h20 rfl h21 dJ15_equals_17 ?_
          refine lv_aload_n (pc := 18) hx hb dJ15_equals_18 rfl (lv_at hl 1 rfl) ?_
          refine lv_iload_n (pc := 19) hx hb dJ15_equals_19 rfl (lv_at hl 2 rfl) ?_
          obtain ⟨z22, h23, hd⟩ := wt_bd_o hd
          obtain ⟨h24, hd⟩ := wt_ck_o hd
          refine hr_bald (pc := 20) (t := 5) hx hb hK hW h23 rfl h24 dJ15_equals_20 ?_
          refine lv_icmp_eq (pc := 21) (tgt := 26) hx hb dJ15_equals_21 (by decide) (fun c25 => ?_) (fun c25 => ?_)
          · have hd := wt_it hd c25
            obtain ⟨n26, en26, hd⟩ := wt_lt_o hd
            refine lv_iinc (pc := 26) (k := 2) (v := n26) (lv' := [(2, .int n26), (0, .ref a0), (1, .ref a1)]) hx hb dJ15_equals_26 hl rfl en26.symm (by decide) rfl (fun ls hl => ?_)
            refine lv_goto (pc := 29) (tgt := 9) hx hb dJ15_equals_29 (by decide) ?_
            exact ih12 _ (wt_again hd hk11) _ _ _ hW hS (lv_sub hl [1, 2, 0] rfl)
          · have hd := wt_if hd c25
            refine lv_iconst (pc := 24) (v := 0) hx hb dJ15_equals_24 (by decide) ?_
            have hd := wt_rs_r (wt_exit hd hk11) hq9
            exact hr_iret hx hb hr rfl hlocks (Option.some.inj hd) rfl hW hS dJ15_equals_25 (Nat.le_of_ble_eq_true rfl) (Nat.le_of_ble_eq_true rfl)
    obtain ⟨k14, hL8⟩ := wt_whC_o hL8
    exact hI15 k14 _ hL8 _ _ _ hW hS (lv_sub hl [1, 2, 0] rfl)
theorem kJ15_equals {p : Program} {l : Launch} {e : Env} {R : Room} {s : State} {m : MethodId} {args : Array Value} {below : List Frame} {meth : Method} {c : Code} {H : Heap} {locs : List Loc} {cells slots : Nat} {Q : State → Prop} {cc : ByteArray} {pc : Nat} {ls : Array Slot} {rest : List Value} {nL : Nat} {own : String} {index : Nat} {G : HG} {A : Nat → Prop} {τ : HP} {a0 : Nat} {a1 : Nat} {out_ : Int32} (hx : p.tables.exec = Jvm.exec) (hb : c.code = cc) (hml : c.maxLocals = nL) (hown : s.vm.findClass own = some m.cls) (hts : ∀ w ∈ lw_all, w.before args s = true) (hC : Hcx G A s) (hW : Hw G A τ H) (hS : va_S A s.heap H locs) (hd : eJ15_equals τ a0 a1 = some out_) (hsz : ls.size = nL) (hrm : (rest.map fun v => v.category).sum ≤ 8) (hR : 1 ≤ R.frames ∧ 22 ≤ R.locals) (hcs : cells ≤ R.cells ∧ slots ≤ R.slots) (hlk : Cond.methodLink own index yJ15_equals ∈ lw_all) (hdg : decode cc pc = .ok (.invokestatic index, 3)) (kk : ∀ (H1 : Heap) (locs1 : List Loc), Hw G A τ H1 → va_S A s.heap H1 locs1 → W p l e R s m args below meth c H1 locs1 cells slots Q (F0 m (pc + 3) ls (.int out_ :: rest))) : W p l e R s m args below meth c H locs cells slots Q (F0 m pc ls (.ref a1 :: .ref a0 :: rest)) := by
  refine va_calli (va_runS (As := [.ref a0, .ref a1]) (rest := rest) ⟨hx, hb, hml, hown, hts⟩ (wJ15_equals l hd) (va_cwS 2 hts (lw_S hlk q819 q85 q820) rfl rfl rfl (by decide +kernel) hR) (hr_preS hC hW hS) rfl rfl hsz rfl (lv_room hrm) hdg hcs) hS (fun _ _ h => h) (fun _ h => h) (fun r u t H1 locs1 ht hvm hp hB hz hk hS1 => ?_)
  have hp : r = out_ := hp
  subst hp
  have hW1 : Hw G A τ t.heap := hB
  rw [ht] at hW1
  exact kk H1 locs1 hW1 hS1
noncomputable def eJ9_equals (τ : HP) (o_ : Nat) (a0 : Nat) : Option (Int32) :=
  if o_ = a0 then (some (1 : Int32)) else (wt_ck (hcl τ a0 = some 16) <| if (1 : Int32) = 0 then (some (0 : Int32)) else (wt_ck (hcl τ a0 = some 16) <| wt_bd (if (1 : Int32) = 0 then (some (.inl ())) else (wt_bd (hgI τ o_ [15] 1) fun f10 => wt_bd (hgI τ a0 [16] 1) fun f12 => if f10 = f12 then (some (.inl ())) else (some (.inr (0 : Int32))))) fun w5 => wt_rs w5 (fun w5 => wt_bd (hgA τ o_ [15] 0) fun ad15 => wt_bd (hgA τ a0 [16] 0) fun ad17 => wt_bd (eJ15_equals τ ad15 ad17) fun w19 => if w19 = 0 then (some (0 : Int32)) else (some (1 : Int32))) (fun z_ => some z_)))
set_option maxHeartbeats 4000000 in
theorem wJ9_equals (l : Launch) {G : HG} {A : Nat → Prop} {τ : HP} {o_ : Nat} {a0 : Nat} {out_ : Int32} (hd : eJ9_equals τ o_ a0 = some out_) : Met l yJ9_equals (ws_ yJ9_equals cJ9_equals 3 (some .boolean)) ({ frames := 1, cells := 0, slots := 0, locals := 22 }) (hPc G A τ [.ref o_, .ref a0]) (hQi G out_ τ A) 0 0 A := by
  refine Met.ofW (cc := cJ9_equals) (maxL := 3) (ret := (some .boolean)) (by decide) rfl ?_
  intro p_ e_ s_ m_ args_ below_ meth_ c_ s₁_ B hml hv
  obtain ⟨rfl, hW, hC⟩ := hv
  have hx := B.exec
  have hb := B.bytes
  have hr := B.returns
  have hts := atoms_spec (ws := (ws_ yJ9_equals cJ9_equals 3 (some .boolean))) B.pre
  have hts : ∀ w ∈ lw_all, w.before _ s_ = true := fun w h => hts w (List.mem_cons_of_mem _ h)
  have hown : s_.vm.findClass RJ9 = some m_.cls := findClass_of_methodNamed B.named
  have hlocks := B.notSynchronized
  have hK := hC.1
  have hT := hC.2.1
  have hL := hC.2.2.1
  have hZ := hC.2.2.2.2.1
  have hA := hC.2.2.2.2.2
  have hS : va_S A s_.heap s_.heap [] := va_S.rf
  have hl := lv_entry ([.ref o_, .ref a0]) (n := 3) (Nat.le_of_ble_eq_true rfl)
  rw [lg_entry_eq]
  generalize (lg_sl ([.ref o_, .ref a0]) ++ List.replicate (3 - (lg_sl ([.ref o_, .ref a0])).length) Slot.unset).toArray = ls at hl ⊢
  have hl : lv_has ls 3 [(0, .ref o_), (1, .ref a0)] := hl
  unfold eJ9_equals at hd
  refine lv_aload_n (pc := 0) hx hb dJ9_equals_0 rfl (lv_at hl 0 rfl) ?_
  refine lv_aload_n (pc := 1) hx hb dJ9_equals_1 rfl (lv_at hl 1 rfl) ?_
  refine lv_acmp_ne (pc := 2) (tgt := 7) (rx := some (o_)) (ry := some (a0)) hx hb dJ9_equals_2 (by decide) (fun c1 => ?_) (fun c1 => ?_)
  · have hd := wt_if hd (fun h => c1 (congrArg some h))
    refine lv_aload_n (pc := 7) hx hb dJ9_equals_7 rfl (lv_at hl 1 rfl) ?_
    obtain ⟨h2, hd⟩ := wt_ck_o hd
    refine hr_inst (pc := 8) (ci := 16) hx hb hts hown hK hW h2 rfl rfl q817 dJ9_equals_8 ?_
    refine lv_if_eq (pc := 11) (tgt := 54) hx hb dJ9_equals_11 (by decide) (fun c3 => ?_) (fun c3 => ?_)
    · have hd := wt_it hd c3
      refine lv_iconst (pc := 54) (v := 0) hx hb dJ9_equals_54 (by decide) ?_
      exact hr_iret hx hb hr rfl hlocks (Option.some.inj hd) rfl hW hS dJ9_equals_55 (Nat.le_of_ble_eq_true rfl) (Nat.le_of_ble_eq_true rfl)
    · have hd := wt_if hd c3
      refine lv_aload_n (pc := 14) hx hb dJ9_equals_14 rfl (lv_at hl 1 rfl) ?_
      obtain ⟨h4, hd⟩ := wt_ck_o hd
      refine hr_cast (pc := 15) (ci := 16) hx hb hts hown hK hW h4 rfl rfl q817 dJ9_equals_15 ?_
      refine lv_astore_n (pc := 18) (lv' := [(2, .ref a0), (0, .ref o_), (1, .ref a0)]) hx hb dJ9_equals_18 rfl hl (by decide) rfl (fun ls hl => ?_)
      refine va_gets (pc := 19) hx hb hZ.1 hS hown (hts _ q346) (fun _ h => h) dJ9_equals_19 ?_
      obtain ⟨w5, hj6, hq7⟩ := wt_bd_o hd
      have hX8 : ∀ w5_ : Unit, (Sum.inl w5_ : (Unit) ⊕ _) = w5 → ∀ (H : Heap) (locs : List Loc) (ls : Array Slot), Hw G A τ H → va_S A s_.heap H locs → lv_has ls 3 [(0, .ref o_), (2, .ref a0)] → W p_ l e_ (headSpec (ws_ yJ9_equals cJ9_equals 3 (some .boolean)) ({ frames := 1, cells := 0, slots := 0, locals := 22 })).room s_ m_ ([.ref o_, .ref a0] : List Value).toArray below_ meth_ c_ H locs 0 0 (MQ below_ (hQi G out_ τ A) ([.ref o_, .ref a0] : List Value).toArray s_ 0 0 A) (F0 m_ 36 ls []) := by
        intro w5_ hw_
        have hd := wt_rs_l hw_ hq7
        clear hj6 hq7
        intro H locs ls hW hS hl
        refine lv_aload_n (pc := 36) hx hb dJ9_equals_36 rfl (lv_at hl 0 rfl) ?_
        obtain ⟨ad15, h16, hd⟩ := wt_bd_o hd
        refine hr_get (pc := 37) hx hb hts hown hK hW (hgA_o h16) hf_15_0 (fun _ h => h) q487 dJ9_equals_37 ?_
        refine lv_aload_n (pc := 40) hx hb dJ9_equals_40 rfl (lv_at hl 1 rfl) ?_
        obtain ⟨ad17, h18, hd⟩ := wt_bd_o hd
        refine hr_get (pc := 41) hx hb hts hown hK hW (hgA_o h18) hf_16_0 (fun _ h => h) q487 dJ9_equals_41 ?_
        obtain ⟨w19, hc20, hd⟩ := wt_bd_o hd
        refine kJ15_equals (pc := 44) hx hb hml hown hts hC hW hS hc20 hl.1 (Nat.le_of_ble_eq_true rfl) ⟨Nat.le_of_ble_eq_true rfl, Nat.le_of_ble_eq_true rfl⟩ ⟨Nat.le_of_ble_eq_true rfl, Nat.le_of_ble_eq_true rfl⟩ q818 dJ9_equals_44 (fun H locs hW hS => ?_)
        refine lv_if_eq (pc := 47) (tgt := 54) hx hb dJ9_equals_47 (by decide) (fun c21 => ?_) (fun c21 => ?_)
        · have hd := wt_it hd c21
          refine lv_iconst (pc := 54) (v := 0) hx hb dJ9_equals_54 (by decide) ?_
          exact hr_iret hx hb hr rfl hlocks (Option.some.inj hd) rfl hW hS dJ9_equals_55 (Nat.le_of_ble_eq_true rfl) (Nat.le_of_ble_eq_true rfl)
        · have hd := wt_if hd c21
          refine lv_iconst (pc := 50) (v := 1) hx hb dJ9_equals_50 (by decide) ?_
          refine lv_goto (pc := 51) (tgt := 55) hx hb dJ9_equals_51 (by decide) ?_
          exact hr_iret hx hb hr rfl hlocks (Option.some.inj hd) rfl hW hS dJ9_equals_55 (Nat.le_of_ble_eq_true rfl) (Nat.le_of_ble_eq_true rfl)
      have hd := hj6
      refine lv_if_eq (pc := 22) (tgt := 36) hx hb dJ9_equals_22 (by decide) (fun c9 => ?_) (fun c9 => ?_)
      · have hd := wt_it hd c9
        exact hX8 () (Option.some.inj hd) _ _ _ hW hS (lv_sub hl [1, 0] rfl)
      · have hd := wt_if hd c9
        refine lv_aload_n (pc := 25) hx hb dJ9_equals_25 rfl (lv_at hl 1 rfl) ?_
        obtain ⟨f10, h11, hd⟩ := wt_bd_o hd
        refine hr_get (pc := 26) hx hb hts hown hK hW (hgI_o h11) hf_15_1 (fun _ h => h) q488 dJ9_equals_26 ?_
        refine lv_aload_n (pc := 29) hx hb dJ9_equals_29 rfl (lv_at hl 0 rfl) ?_
        obtain ⟨f12, h13, hd⟩ := wt_bd_o hd
        refine hr_get (pc := 30) hx hb hts hown hK hW (hgI_o h13) hf_16_1 (fun _ h => h) q488 dJ9_equals_30 ?_
        refine lv_icmp_ne (pc := 33) (tgt := 54) hx hb dJ9_equals_33 (by decide) (fun c14 => ?_) (fun c14 => ?_)
        · have hd := wt_if hd c14
          refine lv_iconst (pc := 54) (v := 0) hx hb dJ9_equals_54 (by decide) ?_
          have hd := wt_rs_r (Option.some.inj hd) hq7
          exact hr_iret hx hb hr rfl hlocks (Option.some.inj hd) rfl hW hS dJ9_equals_55 (Nat.le_of_ble_eq_true rfl) (Nat.le_of_ble_eq_true rfl)
        · have hd := wt_it hd c14
          exact hX8 () (Option.some.inj hd) _ _ _ hW hS (lv_sub hl [1, 0] rfl)
  · have hd := wt_it hd (Option.some.inj c1)
    refine lv_iconst (pc := 5) (v := 1) hx hb dJ9_equals_5 (by decide) ?_
    exact hr_iret hx hb hr rfl hlocks (Option.some.inj hd) rfl hW hS dJ9_equals_6 (Nat.le_of_ble_eq_true rfl) (Nat.le_of_ble_eq_true rfl)
theorem kJ9_equals {p : Program} {l : Launch} {e : Env} {R : Room} {s : State} {m : MethodId} {args : Array Value} {below : List Frame} {meth : Method} {c : Code} {H : Heap} {locs : List Loc} {cells slots : Nat} {Q : State → Prop} {cc : ByteArray} {pc : Nat} {ls : Array Slot} {rest : List Value} {nL : Nat} {own : String} {index : Nat} {G : HG} {A : Nat → Prop} {τ : HP} {o_ : Nat} {a0 : Nat} {out_ : Int32} (hx : p.tables.exec = Jvm.exec) (hb : c.code = cc) (hml : c.maxLocals = nL) (hown : s.vm.findClass own = some m.cls) (hts : ∀ w ∈ lw_all, w.before args s = true) (hC : Hcx G A s) (hW : Hw G A τ H) (hS : va_S A s.heap H locs) (hrc : hcl τ o_ = some 15) (hd : eJ9_equals τ o_ a0 = some out_) (hsz : ls.size = nL) (hrm : (rest.map fun v => v.category).sum ≤ 8) (hR : 2 ≤ R.frames ∧ 44 ≤ R.locals) (hcs : cells ≤ R.cells ∧ slots ≤ R.slots) (hlk : Cond.methodLink own index yJ9_equals ∈ lw_all) (hdg : decode cc pc = .ok (.invokevirtual index, 3)) (kk : ∀ (H1 : Heap) (locs1 : List Loc), Hw G A τ H1 → va_S A s.heap H1 locs1 → W p l e R s m args below meth c H1 locs1 cells slots Q (F0 m (pc + 3) ls (.int out_ :: rest))) : W p l e R s m args below meth c H locs cells slots Q (F0 m pc ls (.ref a0 :: .ref o_ :: rest)) := by
  refine va_calli (va_runV (As := [.ref a0]) (rest := rest) ⟨hx, hb, hml, hown, hts⟩ (wJ9_equals l hd) (cwV 1 hts (lw_V hlk q814 q815 q78 q816) rfl rfl rfl (by decide +kernel) hR) (hr_preV hC hW hS hrc rfl rfl) rfl rfl hsz rfl (lv_room hrm) hdg hcs) hS (fun _ _ h => h) (fun _ h => h) (fun r u t H1 locs1 ht hvm hp hB hz hk hS1 => ?_)
  have hp : r = out_ := hp
  subst hp
  have hW1 : Hw G A τ t.heap := hB
  rw [ht] at hW1
  exact kk H1 locs1 hW1 hS1
noncomputable def bJ11_signedHashCode_1 (τ : HP) (a1 : Nat) (n1 : Int32) (v2 : Int32 × Int32) : Option ((Int32 × Int32) ⊕ (Int32)) :=
  if n1 ≤ v2.2 then (some (.inr v2.1)) else (wt_bd (haI τ a1 1) fun z13 => wt_ck (vp_in v2.2 z13.1) <| wt_lt ((((31 : Int32) * v2.1) + ((z13.2 v2.2.toNatClampNeg) &&& (255 : Int32)))) fun n16 => wt_lt (v2.2 + (1 : Int32)) fun n17 => some (.inl (n16, n17)))
noncomputable def eJ11_signedHashCode (τ : HP) (a0 : Int32) (a1 : Nat) (a2 : Int32) (a3 : Int32) : Option (Int32) :=
  wt_lt ((a2 + a3)) fun n1 => wt_bd (wt_whC (bJ11_signedHashCode_1 τ a1 n1) (a0, a2)) fun w3 => some w3
set_option maxHeartbeats 4000000 in
theorem wJ11_signedHashCode (l : Launch) {G : HG} {A : Nat → Prop} {τ : HP} {a0 : Int32} {a1 : Nat} {a2 : Int32} {a3 : Int32} {out_ : Int32} (hd : eJ11_signedHashCode τ a0 a1 a2 a3 = some out_) : Met l yJ11_signedHashCode (ws_ yJ11_signedHashCode cJ11_signedHashCode 6 (some .int)) ({ frames := 0, cells := 0, slots := 0, locals := 0 }) (hPc G A τ [.int a0, .ref a1, .int a2, .int a3]) (hQi G out_ τ A) 0 0 A := by
  refine Met.ofW (cc := cJ11_signedHashCode) (maxL := 6) (ret := (some .int)) (by decide) rfl ?_
  intro p_ e_ s_ m_ args_ below_ meth_ c_ s₁_ B hml hv
  obtain ⟨rfl, hW, hC⟩ := hv
  have hx := B.exec
  have hb := B.bytes
  have hr := B.returns
  have hts := atoms_spec (ws := (ws_ yJ11_signedHashCode cJ11_signedHashCode 6 (some .int))) B.pre
  have hts : ∀ w ∈ lw_all, w.before _ s_ = true := fun w h => hts w (List.mem_cons_of_mem _ h)
  have hown : s_.vm.findClass RJ11 = some m_.cls := findClass_of_methodNamed B.named
  have hlocks := B.notSynchronized
  have hK := hC.1
  have hT := hC.2.1
  have hL := hC.2.2.1
  have hZ := hC.2.2.2.2.1
  have hA := hC.2.2.2.2.2
  have hS : va_S A s_.heap s_.heap [] := va_S.rf
  have hl := lv_entry ([.int a0, .ref a1, .int a2, .int a3]) (n := 6) (Nat.le_of_ble_eq_true rfl)
  rw [lg_entry_eq]
  generalize (lg_sl ([.int a0, .ref a1, .int a2, .int a3]) ++ List.replicate (6 - (lg_sl ([.int a0, .ref a1, .int a2, .int a3])).length) Slot.unset).toArray = ls at hl ⊢
  have hl : lv_has ls 6 [(0, .int a0), (1, .ref a1), (2, .int a2), (3, .int a3)] := hl
  unfold eJ11_signedHashCode at hd
  refine lv_iload_n (pc := 0) hx hb dJ11_signedHashCode_0 rfl (lv_at hl 2 rfl) ?_
  refine lv_iload_n (pc := 1) hx hb dJ11_signedHashCode_1 rfl (lv_at hl 3 rfl) ?_
  refine lv_iadd (pc := 2) hx hb dJ11_signedHashCode_2 ?_
  obtain ⟨n1, en1, hd⟩ := wt_lt_o hd
  refine lv_tope en1 ?_
  refine lv_istore (pc := 3) (lv' := [(4, .int n1), (0, .int a0), (1, .ref a1), (2, .int a2), (3, .int a3)]) hx hb dJ11_signedHashCode_3 hl (by decide) rfl (fun ls hl => ?_)
  refine lv_iload_n (pc := 5) hx hb dJ11_signedHashCode_5 rfl (lv_at hl 3 rfl) ?_
  refine lv_istore (pc := 6) (lv' := [(5, .int a2), (4, .int n1), (0, .int a0), (1, .ref a1), (2, .int a2), (3, .int a3)]) hx hb dJ11_signedHashCode_6 hl (by decide) rfl (fun ls hl => ?_)
  obtain ⟨w3, hL4, hq5⟩ := wt_bd_o hd
  have hX6 : ∀ w3_ : Int32, w3_ = w3 → ∀ (H : Heap) (locs : List Loc) (ls : Array Slot), Hw G A τ H → va_S A s_.heap H locs → lv_has ls 6 [(0, .int w3_)] → W p_ l e_ (headSpec (ws_ yJ11_signedHashCode cJ11_signedHashCode 6 (some .int)) ({ frames := 0, cells := 0, slots := 0, locals := 0 })).room s_ m_ ([.int a0, .ref a1, .int a2, .int a3] : List Value).toArray below_ meth_ c_ H locs 0 0 (MQ below_ (hQi G out_ τ A) ([.int a0, .ref a1, .int a2, .int a3] : List Value).toArray s_ 0 0 A) (F0 m_ 35 ls []) := by
    intro w3_ hw_
    have hd := hq5
    subst hw_
    clear hL4 hq5
    intro H locs ls hW hS hl
    refine lv_iload_n (pc := 35) hx hb dJ11_signedHashCode_35 rfl (lv_at hl 0 rfl) ?_
    exact hr_iret hx hb hr rfl hlocks (Option.some.inj hd) rfl hW hS dJ11_signedHashCode_36 (Nat.le_of_ble_eq_true rfl) (Nat.le_of_ble_eq_true rfl)
  have hI11 : ∀ (k10 : Nat) (v2 : Int32 × Int32), wt_wh (bJ11_signedHashCode_1 τ a1 n1) k10 v2 = some w3 → ∀ (H : Heap) (locs : List Loc) (ls : Array Slot), Hw G A τ H → va_S A s_.heap H locs → lv_has ls 6 [(0, .int v2.1), (1, .ref a1), (4, .int n1), (5, .int v2.2)] → W p_ l e_ (headSpec (ws_ yJ11_signedHashCode cJ11_signedHashCode 6 (some .int)) ({ frames := 0, cells := 0, slots := 0, locals := 0 })).room s_ m_ ([.int a0, .ref a1, .int a2, .int a3] : List Value).toArray below_ meth_ c_ H locs 0 0 (MQ below_ (hQi G out_ τ A) ([.int a0, .ref a1, .int a2, .int a3] : List Value).toArray s_ 0 0 A) (F0 m_ 8 ls []) := by
    intro k10
    induction k10 with
    | zero => intro v2 hd; exact absurd hd wt_wh_z
    | succ k10 ih8 =>
      intro v2 hd
      intro H locs ls hW hS hl
      obtain ⟨r9, hd, hk7⟩ := wt_wh_o hd
      unfold bJ11_signedHashCode_1 at hd
      refine lv_iload (pc := 8) hx hb dJ11_signedHashCode_8 (lv_at hl 3 rfl) ?_
      refine lv_iload (pc := 10) hx hb dJ11_signedHashCode_10 (lv_at hl 2 rfl) ?_
      refine lv_icmp_ge (pc := 12) (tgt := 35) hx hb dJ11_signedHashCode_12 (by decide) (fun c12 => ?_) (fun c12 => ?_)
      · have hd := wt_it hd c12
        exact hX6 v2.1 (wt_exit hd hk7) _ _ _ hW hS (lv_sub hl [0] rfl)
      · have hd := wt_if hd c12
        refine lv_bipush (pc := 15) (v := 31) hx hb dJ11_signedHashCode_15 (by decide) ?_
        refine lv_iload_n (pc := 17) hx hb dJ11_signedHashCode_17 rfl (lv_at hl 0 rfl) ?_
        refine lv_imul (pc := 18) hx hb dJ11_signedHashCode_18 ?_
        refine lv_aload_n (pc := 19) hx hb dJ11_signedHashCode_19 rfl (lv_at hl 1 rfl) ?_
        refine lv_iload (pc := 20) hx hb dJ11_signedHashCode_20 (lv_at hl 3 rfl) ?_
        obtain ⟨z13, h14, hd⟩ := wt_bd_o hd
        obtain ⟨h15, hd⟩ := wt_ck_o hd
        refine hr_bald (pc := 22) (t := 1) hx hb hK hW h14 rfl h15 dJ11_signedHashCode_22 ?_
        refine lv_sipush (pc := 23) (v := 255) hx hb dJ11_signedHashCode_23 (by decide) ?_
        refine lv_iand (pc := 26) hx hb dJ11_signedHashCode_26 ?_
        refine lv_iadd (pc := 27) hx hb dJ11_signedHashCode_27 ?_
        obtain ⟨n16, en16, hd⟩ := wt_lt_o hd
        refine lv_tope en16 ?_
        refine lv_istore_n (pc := 28) (lv' := [(0, .int n16), (1, .ref a1), (4, .int n1), (5, .int v2.2)]) hx hb dJ11_signedHashCode_28 rfl hl (by decide) rfl (fun ls hl => ?_)
        obtain ⟨n17, en17, hd⟩ := wt_lt_o hd
        refine lv_iinc (pc := 29) (k := 3) (v := n17) (lv' := [(5, .int n17), (0, .int n16), (1, .ref a1), (4, .int n1)]) hx hb dJ11_signedHashCode_29 hl rfl en17.symm (by decide) rfl (fun ls hl => ?_)
        refine lv_goto (pc := 32) (tgt := 8) hx hb dJ11_signedHashCode_32 (by decide) ?_
        exact ih8 _ (wt_again hd hk7) _ _ _ hW hS (lv_sub hl [1, 2, 3, 0] rfl)
  obtain ⟨k10, hL4⟩ := wt_whC_o hL4
  exact hI11 k10 _ hL4 _ _ _ hW hS (lv_sub hl [2, 3, 1, 0] rfl)
theorem kJ11_signedHashCode {p : Program} {l : Launch} {e : Env} {R : Room} {s : State} {m : MethodId} {args : Array Value} {below : List Frame} {meth : Method} {c : Code} {H : Heap} {locs : List Loc} {cells slots : Nat} {Q : State → Prop} {cc : ByteArray} {pc : Nat} {ls : Array Slot} {rest : List Value} {nL : Nat} {own : String} {index : Nat} {G : HG} {A : Nat → Prop} {τ : HP} {a0 : Int32} {a1 : Nat} {a2 : Int32} {a3 : Int32} {out_ : Int32} (hx : p.tables.exec = Jvm.exec) (hb : c.code = cc) (hml : c.maxLocals = nL) (hown : s.vm.findClass own = some m.cls) (hts : ∀ w ∈ lw_all, w.before args s = true) (hC : Hcx G A s) (hW : Hw G A τ H) (hS : va_S A s.heap H locs) (hd : eJ11_signedHashCode τ a0 a1 a2 a3 = some out_) (hsz : ls.size = nL) (hrm : (rest.map fun v => v.category).sum ≤ 8) (hR : 1 ≤ R.frames ∧ 25 ≤ R.locals) (hcs : cells ≤ R.cells ∧ slots ≤ R.slots) (hlk : Cond.methodLink own index yJ11_signedHashCode ∈ lw_all) (hdg : decode cc pc = .ok (.invokestatic index, 3)) (kk : ∀ (H1 : Heap) (locs1 : List Loc), Hw G A τ H1 → va_S A s.heap H1 locs1 → W p l e R s m args below meth c H1 locs1 cells slots Q (F0 m (pc + 3) ls (.int out_ :: rest))) : W p l e R s m args below meth c H locs cells slots Q (F0 m pc ls (.int a3 :: .int a2 :: .ref a1 :: .int a0 :: rest)) := by
  refine va_calli (va_runS (As := [.int a0, .ref a1, .int a2, .int a3]) (rest := rest) ⟨hx, hb, hml, hown, hts⟩ (wJ11_signedHashCode l hd) (va_cwS 4 hts (lw_S hlk q767 q80 q768) rfl rfl rfl (by decide +kernel) hR) (hr_preS hC hW hS) rfl rfl hsz rfl (lv_room hrm) hdg hcs) hS (fun _ _ h => h) (fun _ h => h) (fun r u t H1 locs1 ht hvm hp hB hz hk hS1 => ?_)
  have hp : r = out_ := hp
  subst hp
  have hW1 : Hw G A τ t.heap := hB
  rw [ht] at hW1
  exact kk H1 locs1 hW1 hS1
noncomputable def eJ11_vectorizedHashCode (τ : HP) (a0 : Nat) (a1 : Int32) (a2 : Int32) (a3 : Int32) (a4 : Int32) : Option (Int32) :=
  if a4 = (4 : Int32) then (wt_bd (hln τ a0 1) fun m2 => wt_bd (eJ11_signedHashCode τ a3 a0 a1 a2) fun w4 => some w4) else (if a4 = (5 : Int32) then (none) else (if a4 = (6 : Int32) then (none) else (if a4 = (7 : Int32) then (none) else (if a4 = (8 : Int32) then (none) else (if a4 = (9 : Int32) then (none) else (if a4 = (10 : Int32) then (none) else (none)))))))
set_option maxHeartbeats 4000000 in
theorem wJ11_vectorizedHashCode (l : Launch) {G : HG} {A : Nat → Prop} {τ : HP} {a0 : Nat} {a1 : Int32} {a2 : Int32} {a3 : Int32} {a4 : Int32} {out_ : Int32} (hd : eJ11_vectorizedHashCode τ a0 a1 a2 a3 a4 = some out_) : Met l yJ11_vectorizedHashCode (ws_ yJ11_vectorizedHashCode cJ11_vectorizedHashCode 5 (some .int)) ({ frames := 1, cells := 0, slots := 0, locals := 25 }) (hPc G A τ [.ref a0, .int a1, .int a2, .int a3, .int a4]) (hQi G out_ τ A) 0 0 A := by
  refine Met.ofW (cc := cJ11_vectorizedHashCode) (maxL := 5) (ret := (some .int)) (by decide) rfl ?_
  intro p_ e_ s_ m_ args_ below_ meth_ c_ s₁_ B hml hv
  obtain ⟨rfl, hW, hC⟩ := hv
  have hx := B.exec
  have hb := B.bytes
  have hr := B.returns
  have hts := atoms_spec (ws := (ws_ yJ11_vectorizedHashCode cJ11_vectorizedHashCode 5 (some .int))) B.pre
  have hts : ∀ w ∈ lw_all, w.before _ s_ = true := fun w h => hts w (List.mem_cons_of_mem _ h)
  have hown : s_.vm.findClass RJ11 = some m_.cls := findClass_of_methodNamed B.named
  have hlocks := B.notSynchronized
  have hK := hC.1
  have hT := hC.2.1
  have hL := hC.2.2.1
  have hZ := hC.2.2.2.2.1
  have hA := hC.2.2.2.2.2
  have hS : va_S A s_.heap s_.heap [] := va_S.rf
  have hl := lv_entry ([.ref a0, .int a1, .int a2, .int a3, .int a4]) (n := 5) (Nat.le_of_ble_eq_true rfl)
  rw [lg_entry_eq]
  generalize (lg_sl ([.ref a0, .int a1, .int a2, .int a3, .int a4]) ++ List.replicate (5 - (lg_sl ([.ref a0, .int a1, .int a2, .int a3, .int a4])).length) Slot.unset).toArray = ls at hl ⊢
  have hl : lv_has ls 5 [(0, .ref a0), (1, .int a1), (2, .int a2), (3, .int a3), (4, .int a4)] := hl
  unfold eJ11_vectorizedHashCode at hd
  refine lv_iload (pc := 0) hx hb dJ11_vectorizedHashCode_0 (lv_at hl 4 rfl) ?_
  by_cases c1 : a4 = (4 : Int32)
  · have hd := wt_it hd c1
    refine lv_tableIn (pc := 2) (tgt := 44) (off := 42) hx hb dJ11_vectorizedHashCode_2 (by rw [c1]; decide) (by rw [c1]; decide) (by rw [c1]; rfl) (by decide) ?_
    refine lv_iload_n (pc := 44) hx hb dJ11_vectorizedHashCode_44 rfl (lv_at hl 3 rfl) ?_
    refine lv_aload_n (pc := 45) hx hb dJ11_vectorizedHashCode_45 rfl (lv_at hl 0 rfl) ?_
    obtain ⟨m2, h3, hd⟩ := wt_bd_o hd
    refine hr_castB (pc := 46) hx hb hts hown hK hW h3 q765 dJ11_vectorizedHashCode_46 ?_
    refine lv_iload_n (pc := 49) hx hb dJ11_vectorizedHashCode_49 rfl (lv_at hl 1 rfl) ?_
    refine lv_iload_n (pc := 50) hx hb dJ11_vectorizedHashCode_50 rfl (lv_at hl 2 rfl) ?_
    obtain ⟨w4, hc5, hd⟩ := wt_bd_o hd
    refine kJ11_signedHashCode (pc := 51) hx hb hml hown hts hC hW hS hc5 hl.1 (Nat.le_of_ble_eq_true rfl) ⟨Nat.le_of_ble_eq_true rfl, Nat.le_of_ble_eq_true rfl⟩ ⟨Nat.le_of_ble_eq_true rfl, Nat.le_of_ble_eq_true rfl⟩ q766 dJ11_vectorizedHashCode_51 (fun H locs hW hS => ?_)
    refine lv_goto (pc := 54) (tgt := 157) hx hb dJ11_vectorizedHashCode_54 (by decide) ?_
    exact hr_iret hx hb hr rfl hlocks (Option.some.inj hd) rfl hW hS dJ11_vectorizedHashCode_157 (Nat.le_of_ble_eq_true rfl) (Nat.le_of_ble_eq_true rfl)
  have hd := wt_if hd c1
  by_cases c6 : a4 = (5 : Int32)
  · have hd := wt_it hd c6
    refine lv_tableIn (pc := 2) (tgt := 57) (off := 55) hx hb dJ11_vectorizedHashCode_2 (by rw [c6]; decide) (by rw [c6]; decide) (by rw [c6]; rfl) (by decide) ?_
    exact absurd hd (by intro h; cases h)
  have hd := wt_if hd c6
  by_cases c7 : a4 = (6 : Int32)
  · have hd := wt_it hd c7
    refine lv_tableIn (pc := 2) (tgt := 129) (off := 127) hx hb dJ11_vectorizedHashCode_2 (by rw [c7]; decide) (by rw [c7]; decide) (by rw [c7]; rfl) (by decide) ?_
    exact absurd hd (by intro h; cases h)
  have hd := wt_if hd c7
  by_cases c8 : a4 = (7 : Int32)
  · have hd := wt_it hd c8
    refine lv_tableIn (pc := 2) (tgt := 129) (off := 127) hx hb dJ11_vectorizedHashCode_2 (by rw [c8]; decide) (by rw [c8]; decide) (by rw [c8]; rfl) (by decide) ?_
    exact absurd hd (by intro h; cases h)
  have hd := wt_if hd c8
  by_cases c9 : a4 = (8 : Int32)
  · have hd := wt_it hd c9
    refine lv_tableIn (pc := 2) (tgt := 90) (off := 88) hx hb dJ11_vectorizedHashCode_2 (by rw [c9]; decide) (by rw [c9]; decide) (by rw [c9]; rfl) (by decide) ?_
    exact absurd hd (by intro h; cases h)
  have hd := wt_if hd c9
  by_cases c10 : a4 = (9 : Int32)
  · have hd := wt_it hd c10
    refine lv_tableIn (pc := 2) (tgt := 103) (off := 101) hx hb dJ11_vectorizedHashCode_2 (by rw [c10]; decide) (by rw [c10]; decide) (by rw [c10]; rfl) (by decide) ?_
    exact absurd hd (by intro h; cases h)
  have hd := wt_if hd c10
  by_cases c11 : a4 = (10 : Int32)
  · have hd := wt_it hd c11
    refine lv_tableIn (pc := 2) (tgt := 116) (off := 114) hx hb dJ11_vectorizedHashCode_2 (by rw [c11]; decide) (by rw [c11]; decide) (by rw [c11]; rfl) (by decide) ?_
    exact absurd hd (by intro h; cases h)
  have hd := wt_if hd c11
  have ec1 : ¬ (a4).toInt = 4 := fun h => c1 (wt_i32 h (by decide))
  have ec6 : ¬ (a4).toInt = 5 := fun h => c6 (wt_i32 h (by decide))
  have ec7 : ¬ (a4).toInt = 6 := fun h => c7 (wt_i32 h (by decide))
  have ec8 : ¬ (a4).toInt = 7 := fun h => c8 (wt_i32 h (by decide))
  have ec9 : ¬ (a4).toInt = 8 := fun h => c9 (wt_i32 h (by decide))
  have ec10 : ¬ (a4).toInt = 9 := fun h => c10 (wt_i32 h (by decide))
  have ec11 : ¬ (a4).toInt = 10 := fun h => c11 (wt_i32 h (by decide))
  refine lv_tableOut (pc := 2) (tgt := 129) hx hb dJ11_vectorizedHashCode_2 (by omega) (by decide) ?_
  exact absurd hd (by intro h; cases h)
theorem kJ11_vectorizedHashCode {p : Program} {l : Launch} {e : Env} {R : Room} {s : State} {m : MethodId} {args : Array Value} {below : List Frame} {meth : Method} {c : Code} {H : Heap} {locs : List Loc} {cells slots : Nat} {Q : State → Prop} {cc : ByteArray} {pc : Nat} {ls : Array Slot} {rest : List Value} {nL : Nat} {own : String} {index : Nat} {G : HG} {A : Nat → Prop} {τ : HP} {a0 : Nat} {a1 : Int32} {a2 : Int32} {a3 : Int32} {a4 : Int32} {out_ : Int32} (hx : p.tables.exec = Jvm.exec) (hb : c.code = cc) (hml : c.maxLocals = nL) (hown : s.vm.findClass own = some m.cls) (hts : ∀ w ∈ lw_all, w.before args s = true) (hC : Hcx G A s) (hW : Hw G A τ H) (hS : va_S A s.heap H locs) (hd : eJ11_vectorizedHashCode τ a0 a1 a2 a3 a4 = some out_) (hsz : ls.size = nL) (hrm : (rest.map fun v => v.category).sum ≤ 8) (hR : 2 ≤ R.frames ∧ 49 ≤ R.locals) (hcs : cells ≤ R.cells ∧ slots ≤ R.slots) (hlk : Cond.methodLink own index yJ11_vectorizedHashCode ∈ lw_all) (hdg : decode cc pc = .ok (.invokestatic index, 3)) (kk : ∀ (H1 : Heap) (locs1 : List Loc), Hw G A τ H1 → va_S A s.heap H1 locs1 → W p l e R s m args below meth c H1 locs1 cells slots Q (F0 m (pc + 3) ls (.int out_ :: rest))) : W p l e R s m args below meth c H locs cells slots Q (F0 m pc ls (.int a4 :: .int a3 :: .int a2 :: .int a1 :: .ref a0 :: rest)) := by
  refine va_calli (va_runS (As := [.ref a0, .int a1, .int a2, .int a3, .int a4]) (rest := rest) ⟨hx, hb, hml, hown, hts⟩ (wJ11_vectorizedHashCode l hd) (va_cwS 5 hts (lw_S hlk q763 q80 q764) rfl rfl rfl (by decide +kernel) hR) (hr_preS hC hW hS) rfl rfl hsz rfl (lv_room hrm) hdg hcs) hS (fun _ _ h => h) (fun _ h => h) (fun r u t H1 locs1 ht hvm hp hB hz hk hS1 => ?_)
  have hp : r = out_ := hp
  subst hp
  have hW1 : Hw G A τ t.heap := hB
  rw [ht] at hW1
  exact kk H1 locs1 hW1 hS1
noncomputable def eJ15_hashCode (τ : HP) (a0 : Nat) : Option (Int32) :=
  wt_bd (hln τ a0 1) fun m1 => if (Int32.ofNat m1) = (0 : Int32) then (some (0 : Int32)) else (if (Int32.ofNat m1) = (1 : Int32) then (wt_bd (haI τ a0 1) fun z5 => wt_ck (vp_in (0 : Int32) z5.1) <| some ((z5.2 (0 : Int32).toNatClampNeg) &&& (255 : Int32))) else (wt_bd (hln τ a0 1) fun m8 => wt_bd (eJ11_vectorizedHashCode τ a0 (0 : Int32) (Int32.ofNat m8) (0 : Int32) (4 : Int32)) fun w10 => some w10))
set_option maxHeartbeats 4000000 in
theorem wJ15_hashCode (l : Launch) {G : HG} {A : Nat → Prop} {τ : HP} {a0 : Nat} {out_ : Int32} (hd : eJ15_hashCode τ a0 = some out_) : Met l yJ15_hashCode (ws_ yJ15_hashCode cJ15_hashCode 1 (some .int)) ({ frames := 2, cells := 0, slots := 0, locals := 49 }) (hPc G A τ [.ref a0]) (hQi G out_ τ A) 0 0 A := by
  refine Met.ofW (cc := cJ15_hashCode) (maxL := 1) (ret := (some .int)) (by decide) rfl ?_
  intro p_ e_ s_ m_ args_ below_ meth_ c_ s₁_ B hml hv
  obtain ⟨rfl, hW, hC⟩ := hv
  have hx := B.exec
  have hb := B.bytes
  have hr := B.returns
  have hts := atoms_spec (ws := (ws_ yJ15_hashCode cJ15_hashCode 1 (some .int))) B.pre
  have hts : ∀ w ∈ lw_all, w.before _ s_ = true := fun w h => hts w (List.mem_cons_of_mem _ h)
  have hown : s_.vm.findClass RJ15 = some m_.cls := findClass_of_methodNamed B.named
  have hlocks := B.notSynchronized
  have hK := hC.1
  have hT := hC.2.1
  have hL := hC.2.2.1
  have hZ := hC.2.2.2.2.1
  have hA := hC.2.2.2.2.2
  have hS : va_S A s_.heap s_.heap [] := va_S.rf
  have hl := lv_entry ([.ref a0]) (n := 1) (Nat.le_of_ble_eq_true rfl)
  rw [lg_entry_eq]
  generalize (lg_sl ([.ref a0]) ++ List.replicate (1 - (lg_sl ([.ref a0])).length) Slot.unset).toArray = ls at hl ⊢
  have hl : lv_has ls 1 [(0, .ref a0)] := hl
  unfold eJ15_hashCode at hd
  refine lv_aload_n (pc := 0) hx hb dJ15_hashCode_0 rfl (lv_at hl 0 rfl) ?_
  obtain ⟨m1, h2, hd⟩ := wt_bd_o hd
  refine hr_alen (pc := 1) (t := 1) hx hb hK hW h2 rfl rfl dJ15_hashCode_1 ?_
  by_cases c3 : (Int32.ofNat m1) = (0 : Int32)
  · have hd := wt_it hd c3
    refine lv_lookup (pc := 2) (tgt := 28) (off := 26) hx hb dJ15_hashCode_2 (by decide) (by rw [c3]; decide) (by decide) ?_
    refine lv_iconst (pc := 28) (v := 0) hx hb dJ15_hashCode_28 (by decide) ?_
    refine lv_goto (pc := 29) (tgt := 51) hx hb dJ15_hashCode_29 (by decide) ?_
    exact hr_iret hx hb hr rfl hlocks (Option.some.inj hd) rfl hW hS dJ15_hashCode_51 (Nat.le_of_ble_eq_true rfl) (Nat.le_of_ble_eq_true rfl)
  have hd := wt_if hd c3
  by_cases c4 : (Int32.ofNat m1) = (1 : Int32)
  · have hd := wt_it hd c4
    refine lv_lookup (pc := 2) (tgt := 32) (off := 30) hx hb dJ15_hashCode_2 (by decide) (by rw [c4]; decide) (by decide) ?_
    refine lv_aload_n (pc := 32) hx hb dJ15_hashCode_32 rfl (lv_at hl 0 rfl) ?_
    refine lv_iconst (pc := 33) (v := 0) hx hb dJ15_hashCode_33 (by decide) ?_
    obtain ⟨z5, h6, hd⟩ := wt_bd_o hd
    obtain ⟨h7, hd⟩ := wt_ck_o hd
    refine hr_bald (pc := 34) (t := 1) hx hb hK hW h6 rfl h7 dJ15_hashCode_34 ?_
    refine lv_sipush (pc := 35) (v := 255) hx hb dJ15_hashCode_35 (by decide) ?_
    refine lv_iand (pc := 38) hx hb dJ15_hashCode_38 ?_
    refine lv_goto (pc := 39) (tgt := 51) hx hb dJ15_hashCode_39 (by decide) ?_
    exact hr_iret hx hb hr rfl hlocks (Option.some.inj hd) rfl hW hS dJ15_hashCode_51 (Nat.le_of_ble_eq_true rfl) (Nat.le_of_ble_eq_true rfl)
  have hd := wt_if hd c4
  have ec3 : ¬ ((Int32.ofNat m1)).toInt = 0 := fun h => c3 (wt_i32 h (by decide))
  have ec4 : ¬ ((Int32.ofNat m1)).toInt = 1 := fun h => c4 (wt_i32 h (by decide))
  refine lv_lookup (pc := 2) (tgt := 42) (off := 40) hx hb dJ15_hashCode_2 (by decide) (wt_lkd [(0, 26), (1, 30)] _ _ (by intro q hq; simp only [List.mem_cons, List.not_mem_nil, or_false] at hq; rcases hq with hq | hq <;> subst hq <;> assumption)) (by decide) ?_
  refine lv_aload_n (pc := 42) hx hb dJ15_hashCode_42 rfl (lv_at hl 0 rfl) ?_
  refine lv_iconst (pc := 43) (v := 0) hx hb dJ15_hashCode_43 (by decide) ?_
  refine lv_aload_n (pc := 44) hx hb dJ15_hashCode_44 rfl (lv_at hl 0 rfl) ?_
  obtain ⟨m8, h9, hd⟩ := wt_bd_o hd
  refine hr_alen (pc := 45) (t := 1) hx hb hK hW h9 rfl rfl dJ15_hashCode_45 ?_
  refine lv_iconst (pc := 46) (v := 0) hx hb dJ15_hashCode_46 (by decide) ?_
  refine lv_iconst (pc := 47) (v := 4) hx hb dJ15_hashCode_47 (by decide) ?_
  obtain ⟨w10, hc11, hd⟩ := wt_bd_o hd
  refine kJ11_vectorizedHashCode (pc := 48) hx hb hml hown hts hC hW hS hc11 hl.1 (Nat.le_of_ble_eq_true rfl) ⟨Nat.le_of_ble_eq_true rfl, Nat.le_of_ble_eq_true rfl⟩ ⟨Nat.le_of_ble_eq_true rfl, Nat.le_of_ble_eq_true rfl⟩ q762 dJ15_hashCode_48 (fun H locs hW hS => ?_)
  exact hr_iret hx hb hr rfl hlocks (Option.some.inj hd) rfl hW hS dJ15_hashCode_51 (Nat.le_of_ble_eq_true rfl) (Nat.le_of_ble_eq_true rfl)
theorem kJ15_hashCode {p : Program} {l : Launch} {e : Env} {R : Room} {s : State} {m : MethodId} {args : Array Value} {below : List Frame} {meth : Method} {c : Code} {H : Heap} {locs : List Loc} {cells slots : Nat} {Q : State → Prop} {cc : ByteArray} {pc : Nat} {ls : Array Slot} {rest : List Value} {nL : Nat} {own : String} {index : Nat} {G : HG} {A : Nat → Prop} {τ : HP} {a0 : Nat} {out_ : Int32} (hx : p.tables.exec = Jvm.exec) (hb : c.code = cc) (hml : c.maxLocals = nL) (hown : s.vm.findClass own = some m.cls) (hts : ∀ w ∈ lw_all, w.before args s = true) (hC : Hcx G A s) (hW : Hw G A τ H) (hS : va_S A s.heap H locs) (hd : eJ15_hashCode τ a0 = some out_) (hsz : ls.size = nL) (hrm : (rest.map fun v => v.category).sum ≤ 8) (hR : 3 ≤ R.frames ∧ 69 ≤ R.locals) (hcs : cells ≤ R.cells ∧ slots ≤ R.slots) (hlk : Cond.methodLink own index yJ15_hashCode ∈ lw_all) (hdg : decode cc pc = .ok (.invokestatic index, 3)) (kk : ∀ (H1 : Heap) (locs1 : List Loc), Hw G A τ H1 → va_S A s.heap H1 locs1 → W p l e R s m args below meth c H1 locs1 cells slots Q (F0 m (pc + 3) ls (.int out_ :: rest))) : W p l e R s m args below meth c H locs cells slots Q (F0 m pc ls (.ref a0 :: rest)) := by
  refine va_calli (va_runS (As := [.ref a0]) (rest := rest) ⟨hx, hb, hml, hown, hts⟩ (wJ15_hashCode l hd) (va_cwS 1 hts (lw_S hlk q760 q85 q761) rfl rfl rfl (by decide +kernel) hR) (hr_preS hC hW hS) rfl rfl hsz rfl (lv_room hrm) hdg hcs) hS (fun _ _ h => h) (fun _ h => h) (fun r u t H1 locs1 ht hvm hp hB hz hk hS1 => ?_)
  have hp : r = out_ := hp
  subst hp
  have hW1 : Hw G A τ t.heap := hB
  rw [ht] at hW1
  exact kk H1 locs1 hW1 hS1
noncomputable def eJ9_hashCode (τ : HP) (o_ : Nat) : Option (Int32 × HP) :=
  wt_bd (hgI τ o_ [15] 2) fun f1 => if f1 = 0 then (wt_bd (hgI τ o_ [15] 3) fun f4 => if f4 = 0 then (wt_ck (hcl τ o_ = some 15) <| wt_bd (eJ9_isLatin1 τ o_) fun w8 => if w8 = 0 then (none) else (wt_bd (hgA τ o_ [15] 0) fun ad11 => wt_bd (eJ15_hashCode τ ad11) fun w13 => if w13 = 0 then (wt_bd (hp τ o_ [15] 3 (.int (1 : Int32))) fun τ18 => some (w13, τ18)) else (wt_bd (hp τ o_ [15] 2 (.int w13)) fun τ16 => some (w13, τ16)))) else (some (f1, τ))) else (some (f1, τ))
set_option maxHeartbeats 4000000 in
theorem wJ9_hashCode (l : Launch) {G : HG} {A : Nat → Prop} {τ : HP} {o_ : Nat} {out_ : Int32 × HP} (hd : eJ9_hashCode τ o_ = some out_) : Met l yJ9_hashCode (ws_ yJ9_hashCode cJ9_hashCode 2 (some .int)) ({ frames := 3, cells := 0, slots := 0, locals := 69 }) (hPc G A τ [.ref o_]) (hQi G out_.1 out_.2 A) 0 0 A := by
  refine Met.ofW (cc := cJ9_hashCode) (maxL := 2) (ret := (some .int)) (by decide) rfl ?_
  intro p_ e_ s_ m_ args_ below_ meth_ c_ s₁_ B hml hv
  obtain ⟨rfl, hW, hC⟩ := hv
  have hx := B.exec
  have hb := B.bytes
  have hr := B.returns
  have hts := atoms_spec (ws := (ws_ yJ9_hashCode cJ9_hashCode 2 (some .int))) B.pre
  have hts : ∀ w ∈ lw_all, w.before _ s_ = true := fun w h => hts w (List.mem_cons_of_mem _ h)
  have hown : s_.vm.findClass RJ9 = some m_.cls := findClass_of_methodNamed B.named
  have hlocks := B.notSynchronized
  have hK := hC.1
  have hT := hC.2.1
  have hL := hC.2.2.1
  have hZ := hC.2.2.2.2.1
  have hA := hC.2.2.2.2.2
  have hS : va_S A s_.heap s_.heap [] := va_S.rf
  have hl := lv_entry ([.ref o_]) (n := 2) (Nat.le_of_ble_eq_true rfl)
  rw [lg_entry_eq]
  generalize (lg_sl ([.ref o_]) ++ List.replicate (2 - (lg_sl ([.ref o_])).length) Slot.unset).toArray = ls at hl ⊢
  have hl : lv_has ls 2 [(0, .ref o_)] := hl
  unfold eJ9_hashCode at hd
  refine lv_aload_n (pc := 0) hx hb dJ9_hashCode_0 rfl (lv_at hl 0 rfl) ?_
  obtain ⟨f1, h2, hd⟩ := wt_bd_o hd
  refine hr_get (pc := 1) hx hb hts hown hK hW (hgI_o h2) hf_15_2 (fun _ h => h) q489 dJ9_hashCode_1 ?_
  refine lv_istore_n (pc := 4) (lv' := [(1, .int f1), (0, .ref o_)]) hx hb dJ9_hashCode_4 rfl hl (by decide) rfl (fun ls hl => ?_)
  refine lv_iload_n (pc := 5) hx hb dJ9_hashCode_5 rfl (lv_at hl 0 rfl) ?_
  refine lv_if_ne (pc := 6) (tgt := 58) hx hb dJ9_hashCode_6 (by decide) (fun c3 => ?_) (fun c3 => ?_)
  · have hd := wt_if hd c3
    refine lv_iload_n (pc := 58) hx hb dJ9_hashCode_58 rfl (lv_at hl 0 rfl) ?_
    exact hr_iret hx hb hr rfl hlocks (wt_p1 hd) (wt_p2 hd) hW hS dJ9_hashCode_59 (Nat.le_of_ble_eq_true rfl) (Nat.le_of_ble_eq_true rfl)
  · have hd := wt_it hd c3
    refine lv_aload_n (pc := 9) hx hb dJ9_hashCode_9 rfl (lv_at hl 1 rfl) ?_
    obtain ⟨f4, h5, hd⟩ := wt_bd_o hd
    refine hr_get (pc := 10) hx hb hts hown hK hW (hgI_o h5) hf_15_3 (fun _ h => h) q490 dJ9_hashCode_10 ?_
    refine lv_if_ne (pc := 13) (tgt := 58) hx hb dJ9_hashCode_13 (by decide) (fun c6 => ?_) (fun c6 => ?_)
    · have hd := wt_if hd c6
      refine lv_iload_n (pc := 58) hx hb dJ9_hashCode_58 rfl (lv_at hl 0 rfl) ?_
      exact hr_iret hx hb hr rfl hlocks (wt_p1 hd) (wt_p2 hd) hW hS dJ9_hashCode_59 (Nat.le_of_ble_eq_true rfl) (Nat.le_of_ble_eq_true rfl)
    · have hd := wt_it hd c6
      refine lv_aload_n (pc := 16) hx hb dJ9_hashCode_16 rfl (lv_at hl 1 rfl) ?_
      obtain ⟨h7, hd⟩ := wt_ck_o hd
      obtain ⟨w8, hc9, hd⟩ := wt_bd_o hd
      refine kJ9_isLatin1 (pc := 17) hx hb hml hown hts hC hW hS h7 hc9 hl.1 (Nat.le_of_ble_eq_true rfl) ⟨Nat.le_of_ble_eq_true rfl, Nat.le_of_ble_eq_true rfl⟩ ⟨Nat.le_of_ble_eq_true rfl, Nat.le_of_ble_eq_true rfl⟩ q755 dJ9_hashCode_17 (fun H locs hW hS => ?_)
      refine lv_if_eq (pc := 20) (tgt := 33) hx hb dJ9_hashCode_20 (by decide) (fun c10 => ?_) (fun c10 => ?_)
      · have hd := wt_it hd c10
        exact absurd hd (by intro h; cases h)
      · have hd := wt_if hd c10
        refine lv_aload_n (pc := 23) hx hb dJ9_hashCode_23 rfl (lv_at hl 1 rfl) ?_
        obtain ⟨ad11, h12, hd⟩ := wt_bd_o hd
        refine hr_get (pc := 24) hx hb hts hown hK hW (hgA_o h12) hf_15_0 (fun _ h => h) q487 dJ9_hashCode_24 ?_
        obtain ⟨w13, hc14, hd⟩ := wt_bd_o hd
        refine kJ15_hashCode (pc := 27) hx hb hml hown hts hC hW hS hc14 hl.1 (Nat.le_of_ble_eq_true rfl) ⟨Nat.le_of_ble_eq_true rfl, Nat.le_of_ble_eq_true rfl⟩ ⟨Nat.le_of_ble_eq_true rfl, Nat.le_of_ble_eq_true rfl⟩ q759 dJ9_hashCode_27 (fun H locs hW hS => ?_)
        refine lv_goto (pc := 30) (tgt := 40) hx hb dJ9_hashCode_30 (by decide) ?_
        refine lv_istore_n (pc := 40) (lv' := [(1, .int w13), (0, .ref o_)]) hx hb dJ9_hashCode_40 rfl hl (by decide) rfl (fun ls hl => ?_)
        refine lv_iload_n (pc := 41) hx hb dJ9_hashCode_41 rfl (lv_at hl 0 rfl) ?_
        refine lv_if_ne (pc := 42) (tgt := 53) hx hb dJ9_hashCode_42 (by decide) (fun c15 => ?_) (fun c15 => ?_)
        · have hd := wt_if hd c15
          refine lv_aload_n (pc := 53) hx hb dJ9_hashCode_53 rfl (lv_at hl 1 rfl) ?_
          refine lv_iload_n (pc := 54) hx hb dJ9_hashCode_54 rfl (lv_at hl 0 rfl) ?_
          obtain ⟨τ16, h17, hd⟩ := wt_bd_o hd
          refine hr_put (pc := 55) (ty := .int) hx hb hts hown hK hW hS h17 hf_15_2 (by decide +kernel) rfl rfl (fun _ h => h) q489 dJ9_hashCode_55 (fun H locs hW hS => ?_)
          refine lv_iload_n (pc := 58) hx hb dJ9_hashCode_58 rfl (lv_at hl 0 rfl) ?_
          exact hr_iret hx hb hr rfl hlocks (wt_p1 hd) (wt_p2 hd) hW hS dJ9_hashCode_59 (Nat.le_of_ble_eq_true rfl) (Nat.le_of_ble_eq_true rfl)
        · have hd := wt_it hd c15
          refine lv_aload_n (pc := 45) hx hb dJ9_hashCode_45 rfl (lv_at hl 1 rfl) ?_
          refine lv_iconst (pc := 46) (v := 1) hx hb dJ9_hashCode_46 (by decide) ?_
          obtain ⟨τ18, h19, hd⟩ := wt_bd_o hd
          refine hr_put (pc := 47) (ty := .boolean) hx hb hts hown hK hW hS h19 hf_15_3 (by decide +kernel) rfl rfl (fun _ h => h) q490 dJ9_hashCode_47 (fun H locs hW hS => ?_)
          refine lv_goto (pc := 50) (tgt := 58) hx hb dJ9_hashCode_50 (by decide) ?_
          refine lv_iload_n (pc := 58) hx hb dJ9_hashCode_58 rfl (lv_at hl 0 rfl) ?_
          exact hr_iret hx hb hr rfl hlocks (wt_p1 hd) (wt_p2 hd) hW hS dJ9_hashCode_59 (Nat.le_of_ble_eq_true rfl) (Nat.le_of_ble_eq_true rfl)
theorem kJ9_hashCode {p : Program} {l : Launch} {e : Env} {R : Room} {s : State} {m : MethodId} {args : Array Value} {below : List Frame} {meth : Method} {c : Code} {H : Heap} {locs : List Loc} {cells slots : Nat} {Q : State → Prop} {cc : ByteArray} {pc : Nat} {ls : Array Slot} {rest : List Value} {nL : Nat} {own : String} {index : Nat} {G : HG} {A : Nat → Prop} {τ : HP} {o_ : Nat} {out_ : Int32 × HP} (hx : p.tables.exec = Jvm.exec) (hb : c.code = cc) (hml : c.maxLocals = nL) (hown : s.vm.findClass own = some m.cls) (hts : ∀ w ∈ lw_all, w.before args s = true) (hC : Hcx G A s) (hW : Hw G A τ H) (hS : va_S A s.heap H locs) (hrc : hcl τ o_ = some 15) (hd : eJ9_hashCode τ o_ = some out_) (hsz : ls.size = nL) (hrm : (rest.map fun v => v.category).sum ≤ 8) (hR : 4 ≤ R.frames ∧ 90 ≤ R.locals) (hcs : cells ≤ R.cells ∧ slots ≤ R.slots) (hlk : Cond.methodLink own index yJ9_hashCode ∈ lw_all) (hdg : decode cc pc = .ok (.invokevirtual index, 3)) (kk : ∀ (H1 : Heap) (locs1 : List Loc), Hw G A out_.2 H1 → va_S A s.heap H1 locs1 → W p l e R s m args below meth c H1 locs1 cells slots Q (F0 m (pc + 3) ls (.int out_.1 :: rest))) : W p l e R s m args below meth c H locs cells slots Q (F0 m pc ls (.ref o_ :: rest)) := by
  refine va_calli (va_runV (As := []) (rest := rest) ⟨hx, hb, hml, hown, hts⟩ (wJ9_hashCode l hd) (cwV 0 hts (lw_V hlk q752 q753 q78 q754) rfl rfl rfl (by decide +kernel) hR) (hr_preV hC hW hS hrc rfl rfl) rfl rfl hsz rfl (lv_room hrm) hdg hcs) hS (fun _ _ h => h) (fun _ h => h) (fun r u t H1 locs1 ht hvm hp hB hz hk hS1 => ?_)
  have hp : r = out_.1 := hp
  subst hp
  have hW1 : Hw G A out_.2 t.heap := hB
  rw [ht] at hW1
  exact kk H1 locs1 hW1 hS1
noncomputable def eL9_coder (τ : HP) (o_ : Nat) : Option (Int32) :=
  if (1 : Int32) = 0 then (none) else (wt_bd (hgI τ o_ [16] 1) fun f2 => wt_ck (narrow .byte (.int f2) = Value.int f2) <| some f2)
set_option maxHeartbeats 4000000 in
theorem wL9_coder (l : Launch) {G : HG} {A : Nat → Prop} {τ : HP} {o_ : Nat} {out_ : Int32} (hd : eL9_coder τ o_ = some out_) : Met l yJ9_coder (ws_ yJ9_coder cJ9_coder 1 (some .byte)) ({ frames := 0, cells := 0, slots := 0, locals := 0 }) (hPc G A τ [.ref o_]) (hQi G out_ τ A) 0 0 A := by
  refine Met.ofW (cc := cJ9_coder) (maxL := 1) (ret := (some .byte)) (by decide) rfl ?_
  intro p_ e_ s_ m_ args_ below_ meth_ c_ s₁_ B hml hv
  obtain ⟨rfl, hW, hC⟩ := hv
  have hx := B.exec
  have hb := B.bytes
  have hr := B.returns
  have hts := atoms_spec (ws := (ws_ yJ9_coder cJ9_coder 1 (some .byte))) B.pre
  have hts : ∀ w ∈ lw_all, w.before _ s_ = true := fun w h => hts w (List.mem_cons_of_mem _ h)
  have hown : s_.vm.findClass RJ9 = some m_.cls := findClass_of_methodNamed B.named
  have hlocks := B.notSynchronized
  have hK := hC.1
  have hT := hC.2.1
  have hL := hC.2.2.1
  have hZ := hC.2.2.2.2.1
  have hA := hC.2.2.2.2.2
  have hS : va_S A s_.heap s_.heap [] := va_S.rf
  have hl := lv_entry ([.ref o_]) (n := 1) (Nat.le_of_ble_eq_true rfl)
  rw [lg_entry_eq]
  generalize (lg_sl ([.ref o_]) ++ List.replicate (1 - (lg_sl ([.ref o_])).length) Slot.unset).toArray = ls at hl ⊢
  have hl : lv_has ls 1 [(0, .ref o_)] := hl
  unfold eL9_coder at hd
  refine va_gets (pc := 0) hx hb hZ.1 hS hown (hts _ q346) (fun _ h => h) dJ9_coder_0 ?_
  refine lv_if_eq (pc := 3) (tgt := 13) hx hb dJ9_coder_3 (by decide) (fun c1 => ?_) (fun c1 => ?_)
  · have hd := wt_it hd c1
    exact absurd hd (by intro h; cases h)
  · have hd := wt_if hd c1
    refine lv_aload_n (pc := 6) hx hb dJ9_coder_6 rfl (lv_at hl 0 rfl) ?_
    obtain ⟨f2, h3, hd⟩ := wt_bd_o hd
    refine hr_get (pc := 7) hx hb hts hown hK hW (hgI_o h3) hf_16_1 (fun _ h => h) q488 dJ9_coder_7 ?_
    refine lv_goto (pc := 10) (tgt := 14) hx hb dJ9_coder_10 (by decide) ?_
    obtain ⟨h4, hd⟩ := wt_ck_o hd
    exact hr_iret hx hb hr h4 hlocks (Option.some.inj hd) rfl hW hS dJ9_coder_14 (Nat.le_of_ble_eq_true rfl) (Nat.le_of_ble_eq_true rfl)
theorem kL9_coder {p : Program} {l : Launch} {e : Env} {R : Room} {s : State} {m : MethodId} {args : Array Value} {below : List Frame} {meth : Method} {c : Code} {H : Heap} {locs : List Loc} {cells slots : Nat} {Q : State → Prop} {cc : ByteArray} {pc : Nat} {ls : Array Slot} {rest : List Value} {nL : Nat} {own : String} {index : Nat} {G : HG} {A : Nat → Prop} {τ : HP} {o_ : Nat} {out_ : Int32} (hx : p.tables.exec = Jvm.exec) (hb : c.code = cc) (hml : c.maxLocals = nL) (hown : s.vm.findClass own = some m.cls) (hts : ∀ w ∈ lw_all, w.before args s = true) (hC : Hcx G A s) (hW : Hw G A τ H) (hS : va_S A s.heap H locs) (hrc : hcl τ o_ = some 16) (hd : eL9_coder τ o_ = some out_) (hsz : ls.size = nL) (hrm : (rest.map fun v => v.category).sum ≤ 8) (hR : 1 ≤ R.frames ∧ 20 ≤ R.locals) (hcs : cells ≤ R.cells ∧ slots ≤ R.slots) (hlk : Cond.methodLink own index yJ9_coder ∈ lw_all) (hdg : decode cc pc = .ok (.invokevirtual index, 3)) (kk : ∀ (H1 : Heap) (locs1 : List Loc), Hw G A τ H1 → va_S A s.heap H1 locs1 → W p l e R s m args below meth c H1 locs1 cells slots Q (F0 m (pc + 3) ls (.int out_ :: rest))) : W p l e R s m args below meth c H locs cells slots Q (F0 m pc ls (.ref o_ :: rest)) := by
  refine va_calli (va_runV (As := []) (rest := rest) ⟨hx, hb, hml, hown, hts⟩ (wL9_coder l hd) (cwV 0 hts (lw_V hlk q343 q344 q78 q345) rfl rfl rfl (by decide +kernel) hR) (hr_preV hC hW hS hrc rfl rfl) rfl rfl hsz rfl (lv_room hrm) hdg hcs) hS (fun _ _ h => h) (fun _ h => h) (fun r u t H1 locs1 ht hvm hp hB hz hk hS1 => ?_)
  have hp : r = out_ := hp
  subst hp
  have hW1 : Hw G A τ t.heap := hB
  rw [ht] at hW1
  exact kk H1 locs1 hW1 hS1
noncomputable def eL9_length (τ : HP) (o_ : Nat) : Option (Int32) :=
  wt_bd (hgA τ o_ [16] 0) fun ad1 => wt_bd (hln τ ad1 5) fun m3 => wt_ck (hcl τ o_ = some 16) <| wt_bd (eL9_coder τ o_) fun w6 => some ((Int32.ofNat m3) >>> (w6 &&& 31))
set_option maxHeartbeats 4000000 in
theorem wL9_length (l : Launch) {G : HG} {A : Nat → Prop} {τ : HP} {o_ : Nat} {out_ : Int32} (hd : eL9_length τ o_ = some out_) : Met l yJ9_length (ws_ yJ9_length cJ9_length 1 (some .int)) ({ frames := 1, cells := 0, slots := 0, locals := 20 }) (hPc G A τ [.ref o_]) (hQi G out_ τ A) 0 0 A := by
  refine Met.ofW (cc := cJ9_length) (maxL := 1) (ret := (some .int)) (by decide) rfl ?_
  intro p_ e_ s_ m_ args_ below_ meth_ c_ s₁_ B hml hv
  obtain ⟨rfl, hW, hC⟩ := hv
  have hx := B.exec
  have hb := B.bytes
  have hr := B.returns
  have hts := atoms_spec (ws := (ws_ yJ9_length cJ9_length 1 (some .int))) B.pre
  have hts : ∀ w ∈ lw_all, w.before _ s_ = true := fun w h => hts w (List.mem_cons_of_mem _ h)
  have hown : s_.vm.findClass RJ9 = some m_.cls := findClass_of_methodNamed B.named
  have hlocks := B.notSynchronized
  have hK := hC.1
  have hT := hC.2.1
  have hL := hC.2.2.1
  have hZ := hC.2.2.2.2.1
  have hA := hC.2.2.2.2.2
  have hS : va_S A s_.heap s_.heap [] := va_S.rf
  have hl := lv_entry ([.ref o_]) (n := 1) (Nat.le_of_ble_eq_true rfl)
  rw [lg_entry_eq]
  generalize (lg_sl ([.ref o_]) ++ List.replicate (1 - (lg_sl ([.ref o_])).length) Slot.unset).toArray = ls at hl ⊢
  have hl : lv_has ls 1 [(0, .ref o_)] := hl
  unfold eL9_length at hd
  refine lv_aload_n (pc := 0) hx hb dJ9_length_0 rfl (lv_at hl 0 rfl) ?_
  obtain ⟨ad1, h2, hd⟩ := wt_bd_o hd
  refine hr_get (pc := 1) hx hb hts hown hK hW (hgA_o h2) hf_16_0 (fun _ h => h) q487 dJ9_length_1 ?_
  obtain ⟨m3, h4, hd⟩ := wt_bd_o hd
  refine hr_alen (pc := 4) (t := 5) hx hb hK hW h4 rfl rfl dJ9_length_4 ?_
  refine lv_aload_n (pc := 5) hx hb dJ9_length_5 rfl (lv_at hl 0 rfl) ?_
  obtain ⟨h5, hd⟩ := wt_ck_o hd
  obtain ⟨w6, hc7, hd⟩ := wt_bd_o hd
  refine kL9_coder (pc := 6) hx hb hml hown hts hC hW hS h5 hc7 hl.1 (Nat.le_of_ble_eq_true rfl) ⟨Nat.le_of_ble_eq_true rfl, Nat.le_of_ble_eq_true rfl⟩ ⟨Nat.le_of_ble_eq_true rfl, Nat.le_of_ble_eq_true rfl⟩ q342 dJ9_length_6 (fun H locs hW hS => ?_)
  refine lv_ishr (pc := 9) hx hb dJ9_length_9 ?_
  exact hr_iret hx hb hr rfl hlocks (Option.some.inj hd) rfl hW hS dJ9_length_10 (Nat.le_of_ble_eq_true rfl) (Nat.le_of_ble_eq_true rfl)
theorem kL9_length {p : Program} {l : Launch} {e : Env} {R : Room} {s : State} {m : MethodId} {args : Array Value} {below : List Frame} {meth : Method} {c : Code} {H : Heap} {locs : List Loc} {cells slots : Nat} {Q : State → Prop} {cc : ByteArray} {pc : Nat} {ls : Array Slot} {rest : List Value} {nL : Nat} {own : String} {index : Nat} {G : HG} {A : Nat → Prop} {τ : HP} {o_ : Nat} {out_ : Int32} (hx : p.tables.exec = Jvm.exec) (hb : c.code = cc) (hml : c.maxLocals = nL) (hown : s.vm.findClass own = some m.cls) (hts : ∀ w ∈ lw_all, w.before args s = true) (hC : Hcx G A s) (hW : Hw G A τ H) (hS : va_S A s.heap H locs) (hrc : hcl τ o_ = some 16) (hd : eL9_length τ o_ = some out_) (hsz : ls.size = nL) (hrm : (rest.map fun v => v.category).sum ≤ 8) (hR : 2 ≤ R.frames ∧ 40 ≤ R.locals) (hcs : cells ≤ R.cells ∧ slots ≤ R.slots) (hlk : Cond.methodLink own index yJ9_length ∈ lw_all) (hdg : decode cc pc = .ok (.invokevirtual index, 3)) (kk : ∀ (H1 : Heap) (locs1 : List Loc), Hw G A τ H1 → va_S A s.heap H1 locs1 → W p l e R s m args below meth c H1 locs1 cells slots Q (F0 m (pc + 3) ls (.int out_ :: rest))) : W p l e R s m args below meth c H locs cells slots Q (F0 m pc ls (.ref o_ :: rest)) := by
  refine va_calli (va_runV (As := []) (rest := rest) ⟨hx, hb, hml, hown, hts⟩ (wL9_length l hd) (cwV 0 hts (lw_V hlk q339 q340 q78 q341) rfl rfl rfl (by decide +kernel) hR) (hr_preV hC hW hS hrc rfl rfl) rfl rfl hsz rfl (lv_room hrm) hdg hcs) hS (fun _ _ h => h) (fun _ h => h) (fun r u t H1 locs1 ht hvm hp hB hz hk hS1 => ?_)
  have hp : r = out_ := hp
  subst hp
  have hW1 : Hw G A τ t.heap := hB
  rw [ht] at hW1
  exact kk H1 locs1 hW1 hS1
