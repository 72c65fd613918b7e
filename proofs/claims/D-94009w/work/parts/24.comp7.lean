/-! init, law, story (by gen/comp.py) -/
set_option maxRecDepth 100000

theorem kN_X3_init {host : String} {p : Program} {l : Launch} {e : Env} {R : Room} {s : State} {m : MethodId} {args : Array Value} {below : List Frame} {meth : Method} {c : Code} {H : Heap} {locs : List Loc} {cells slots : Nat} {Q : State → Prop} {cc : ByteArray} {pc : Nat} {ls : Array Slot} {rest : List Value} {nL : Nat} {own : String} {index : Nat} {G : HG} {A : Nat → Prop} {τ : HP} {o_ : Nat} {out_ : HP} (hx : p.tables.exec = Jvm.exec) (hb : c.code = cc) (hml : c.maxLocals = nL) (hown : s.vm.findClass own = some m.cls) (hts : ∀ w ∈ lw_all, w.before args s = true) (hC : Hcx G A s) (hW : Hw G A τ H) (hS : va_S A s.heap H locs) (hd : eX3_init τ o_ = some out_) (hsz : ls.size = nL) (hrm : (rest.map fun v => v.category).sum ≤ 8) (hR : 5 ≤ R.frames ∧ 113 ≤ R.locals) (hcs : (cells + 5) ≤ R.cells ∧ (slots + 54) ≤ R.slots) (hlk : va_Nw (.methodLinkNest own index yX3_init host) s) (hdg : decode cc pc = .ok (.invokespecial index, 3)) (kk : ∀ (H1 : Heap) (locs1 : List Loc), Hw G A out_ H1 → va_S A s.heap H1 locs1 → W p l e R s m args below meth c H1 locs1 (cells + 5) (slots + 54) Q (F0 m (pc + 3) ls (rest))) : W p l e R s m args below meth c H locs cells slots Q (F0 m pc ls (.ref o_ :: rest)) := by
  refine va_callv (va_runIN (As := []) (rest := rest) ⟨hx, hb, hml, hown, hts⟩ (wX3_init l hd) ⟨va_cnB 0 hts (lw_meth q167) rfl rfl rfl hlk (hts _ q68) (by decide +kernel) hR, rfl, hts _ q166⟩ (hr_preS hC hW hS) rfl rfl hsz rfl (lv_room hrm) hdg hcs) hS (fun _ _ h => h) (fun _ h => h) (fun u t H1 locs1 ht hvm hp hB hz hk hS1 => ?_)
  have hW1 : Hw G A out_ t.heap := hB
  rw [ht] at hW1
  exact kk H1 locs1 hW1 hS1
noncomputable def eX1_init (τ : HP) (o_ : Nat) : Option (HP) :=
  wt_lt (hnew τ (.inr (1, [.null, .null, .null, .null, .int 0, .int 0, .int 0, .int 0]))) fun τ1 => wt_bd (eX2_init τ1 τ.2) fun w2 => wt_bd (hp w2 o_ [0] 0 (.ref (τ.2))) fun τ4 => wt_lt (hnew τ4 (.inr (2, [.null, .null, .null, .int 0]))) fun τ6 => wt_bd (eX3_init τ6 τ4.2) fun w7 => wt_bd (hp w7 o_ [0] 1 (.ref (τ4.2))) fun τ9 => wt_bd (hp τ9 o_ [0] 3 (.int (-1 : Int32))) fun τ11 => wt_lt (hnew τ11 (.inl (1, 400, .inl (fun _ => 0)))) fun τ13 => wt_bd (hp τ13 o_ [0] 5 (.ref (τ11.2))) fun τ14 => wt_lt (hnew τ14 (.inr (13, [.int 0, .null, .int 0]))) fun τ16 => wt_bd (eJ2_init τ16 τ14.2 (1 : Int32)) fun w17 => wt_bd (hp w17 o_ [0] 6 (.ref (τ14.2))) fun τ19 => wt_lt (hnew τ19 (.inl (3, 3, .inr (.inr (.inr (.inr (fun _ => none))))))) fun τ21 => wt_bd (hp τ21 o_ [0] 7 (.ref (τ19.2))) fun τ22 => some (τ22)
set_option maxHeartbeats 4000000 in
theorem wX1_init (l : Launch) {G : HG} {A : Nat → Prop} {τ : HP} {o_ : Nat} {out_ : HP} (hd : eX1_init τ o_ = some out_) : Met l yX1_init (ws_ yX1_init cX1_init 1 none) ({ frames := 5, cells := 15, slots := 586, locals := 113 }) (hPc G A τ [.ref o_]) (hQv G out_ A) 15 586 A := by
  refine Met.ofW (cc := cX1_init) (maxL := 1) (ret := none) (by decide) rfl ?_
  intro p_ e_ s_ m_ args_ below_ meth_ c_ s₁_ B hml hv
  obtain ⟨rfl, hW, hC⟩ := hv
  have hx := B.exec
  have hb := B.bytes
  have hr := B.returns
  have hts := atoms_spec (ws := (ws_ yX1_init cX1_init 1 none)) B.pre
  have hts : ∀ w ∈ lw_all, w.before _ s_ = true := fun w h => hts w (List.mem_cons_of_mem _ h)
  have hown : s_.vm.findClass RX1 = some m_.cls := findClass_of_methodNamed B.named
  have hlocks := B.notSynchronized
  have hK := hC.1
  have hT := hC.2.1
  have hL := hC.2.2.1
  have hZ := hC.2.2.2.2.1
  have hA := hC.2.2.2.2.2
  have hin2 : meth_.name = "<init>" := (name_of_methodNamed B.named B.method).1
  have hS : va_S A s_.heap s_.heap [] := va_S.rf
  have hl := lv_entry ([.ref o_]) (n := 1) (Nat.le_of_ble_eq_true rfl)
  rw [lg_entry_eq]
  generalize (lg_sl ([.ref o_]) ++ List.replicate (1 - (lg_sl ([.ref o_])).length) Slot.unset).toArray = ls at hl ⊢
  have hl : lv_has ls 1 [(0, .ref o_)] := hl
  unfold eX1_init at hd
  refine lv_aload_n (pc := 0) hx hb dX1_init_0 rfl (lv_at hl 0 rfl) ?_
  refine W.objInit (g := F0 m_ 1 ls _) hx hb hown (hts _ q109) (hts _ q110) (hts _ q111) rfl (by rw [hml]; exact hl.1) rfl dX1_init_1 (Nat.le_of_ble_eq_true rfl) (Nat.le_of_ble_eq_true rfl) ?_
  refine W.eq (g2 := F0 m_ 4 ls []) rfl ?_
  refine lv_aload_n (pc := 4) hx hb dX1_init_4 rfl (lv_at hl 0 rfl) ?_
  obtain ⟨τ1, eτ1, hd⟩ := wt_lt_o hd
  refine hr_new (pc := 5) (ci := 1) (fs := [.null, .null, .null, .null, .int 0, .int 0, .int 0, .int 0]) hx hb hts hown hK hW hS hA rfl tyX2 tyX2_ok (by decide +kernel) q112 q113 q67 eτ1 (Nat.le_of_ble_eq_true rfl) (Nat.le_of_ble_eq_true rfl) dX1_init_5 (fun H hW hS => ?_)
  refine lv_dup (pc := 8) hx hb dX1_init_8 rfl ?_
  obtain ⟨w2, hc3, hd⟩ := wt_bd_o hd
  refine kX2_init (pc := 9) hx hb hml hown hts hC hW hS hc3 hl.1 (Nat.le_of_ble_eq_true rfl) ⟨Nat.le_of_ble_eq_true rfl, Nat.le_of_ble_eq_true rfl⟩ ⟨(Nat.le_of_ble_eq_true rfl), (Nat.le_of_ble_eq_true rfl)⟩ q114 dX1_init_9 (fun H locs hW hS => ?_)
  obtain ⟨τ4, h5, hd⟩ := wt_bd_o hd
  refine hr_put (pc := 12) (ty := (.object "WoolThreads$Law")) hx hb hts hown hK hW hS h5 hf_0_0 (by decide +kernel) rfl rfl (fun _ h => h) q534 dX1_init_12 (fun H locs hW hS => ?_)
  refine lv_aload_n (pc := 15) hx hb dX1_init_15 rfl (lv_at hl 0 rfl) ?_
  obtain ⟨τ6, eτ6, hd⟩ := wt_lt_o hd
  refine hr_new (pc := 16) (ci := 2) (fs := [.null, .null, .null, .int 0]) hx hb hts hown hK hW hS hA rfl tyX3 tyX3_ok (by decide +kernel) q163 q164 q68 eτ6 (Nat.le_of_ble_eq_true rfl) (Nat.le_of_ble_eq_true rfl) dX1_init_16 (fun H hW hS => ?_)
  refine lv_dup (pc := 19) hx hb dX1_init_19 rfl ?_
  obtain ⟨w7, hc8, hd⟩ := wt_bd_o hd
  refine kN_X3_init (pc := 20) hx hb hml hown hts hC hW hS hc8 hl.1 (Nat.le_of_ble_eq_true rfl) ⟨Nat.le_of_ble_eq_true rfl, Nat.le_of_ble_eq_true rfl⟩ ⟨(Nat.le_of_ble_eq_true rfl), (Nat.le_of_ble_eq_true rfl)⟩ (hC.2.1.1 _ (hw_of q165 rfl)) dX1_init_20 (fun H locs hW hS => ?_)
  obtain ⟨τ9, h10, hd⟩ := wt_bd_o hd
  refine hr_put (pc := 23) (ty := (.object "WoolThreads$State")) hx hb hts hown hK hW hS h10 hf_0_1 (by decide +kernel) rfl rfl (fun _ h => h) q536 dX1_init_23 (fun H locs hW hS => ?_)
  refine lv_aload_n (pc := 26) hx hb dX1_init_26 rfl (lv_at hl 0 rfl) ?_
  refine lv_iconst (pc := 27) (v := -1) hx hb dX1_init_27 (by decide) ?_
  obtain ⟨τ11, h12, hd⟩ := wt_bd_o hd
  refine hr_put (pc := 28) (ty := .int) hx hb hts hown hK hW hS h12 hf_0_3 (by decide +kernel) rfl rfl (fun _ h => h) q539 dX1_init_28 (fun H locs hW hS => ?_)
  refine lv_aload_n (pc := 31) hx hb dX1_init_31 rfl (lv_at hl 0 rfl) ?_
  refine lv_sipush (pc := 32) (v := 400) hx hb dX1_init_32 (by decide) ?_
  obtain ⟨τ13, eτ13, hd⟩ := wt_lt_o hd
  refine hr_newB (pc := 35) (N := 400) hx hb hts hK hW hS hA (by decide) rfl (by decide) eτ13 (Nat.le_of_ble_eq_true rfl) (Nat.le_of_ble_eq_true rfl) dX1_init_35 (fun H hW hS => ?_)
  obtain ⟨τ14, h15, hd⟩ := wt_bd_o hd
  refine hr_putF (pc := 37) (ty := (.array .byte)) hx hb hts hown hK hin2 hW hS h15 hf_0_5 (by decide +kernel) rfl rfl q541 dX1_init_37 (fun H locs hW hS => ?_)
  refine lv_aload_n (pc := 40) hx hb dX1_init_40 rfl (lv_at hl 0 rfl) ?_
  obtain ⟨τ16, eτ16, hd⟩ := wt_lt_o hd
  refine hr_new (pc := 41) (ci := 13) (fs := [.int 0, .null, .int 0]) hx hb hts hown hK hW hS hA rfl tyJ2 tyJ2_ok (by decide +kernel) q531 q170 q71 eτ16 (Nat.le_of_ble_eq_true rfl) (Nat.le_of_ble_eq_true rfl) dX1_init_41 (fun H hW hS => ?_)
  refine lv_dup (pc := 44) hx hb dX1_init_44 rfl ?_
  refine lv_iconst (pc := 45) (v := 1) hx hb dX1_init_45 (by decide) ?_
  obtain ⟨w17, hc18, hd⟩ := wt_bd_o hd
  refine kJ2_init (pc := 46) hx hb hml hown hts hC hW hS hc18 hl.1 (Nat.le_of_ble_eq_true rfl) ⟨Nat.le_of_ble_eq_true rfl, Nat.le_of_ble_eq_true rfl⟩ ⟨(Nat.le_of_ble_eq_true rfl), (Nat.le_of_ble_eq_true rfl)⟩ q532 dX1_init_46 (fun H locs hW hS => ?_)
  obtain ⟨τ19, h20, hd⟩ := wt_bd_o hd
  refine hr_putF (pc := 49) (ty := (.object "java/util/ArrayList")) hx hb hts hown hK hin2 hW hS h20 hf_0_6 (by decide +kernel) rfl rfl q542 dX1_init_49 (fun H locs hW hS => ?_)
  refine lv_aload_n (pc := 52) hx hb dX1_init_52 rfl (lv_at hl 0 rfl) ?_
  refine lv_iconst (pc := 53) (v := 3) hx hb dX1_init_53 (by decide) ?_
  obtain ⟨τ21, eτ21, hd⟩ := wt_lt_o hd
  refine hr_newR (pc := 54) (t := 3) (N := 3) hx hb hts hown hK hT.2.2.1 hW hS hA rfl q163 (by decide) rfl (by decide) eτ21 (Nat.le_of_ble_eq_true rfl) (Nat.le_of_ble_eq_true rfl) dX1_init_54 (fun H hW hS => ?_)
  obtain ⟨τ22, h23, hd⟩ := wt_bd_o hd
  refine hr_putF (pc := 57) (ty := (.array (.object "WoolThreads$State"))) hx hb hts hown hK hin2 hW hS h23 hf_0_7 (by decide +kernel) rfl rfl q543 dX1_init_57 (fun H locs hW hS => ?_)
  exact hr_vret hx hb hr hlocks (Option.some.inj hd) hW hS dX1_init_60 (Nat.le_of_ble_eq_true rfl) (Nat.le_of_ble_eq_true rfl)
theorem kX1_init {p : Program} {l : Launch} {e : Env} {R : Room} {s : State} {m : MethodId} {args : Array Value} {below : List Frame} {meth : Method} {c : Code} {H : Heap} {locs : List Loc} {cells slots : Nat} {Q : State → Prop} {cc : ByteArray} {pc : Nat} {ls : Array Slot} {rest : List Value} {nL : Nat} {own : String} {index : Nat} {G : HG} {A : Nat → Prop} {τ : HP} {o_ : Nat} {out_ : HP} (hx : p.tables.exec = Jvm.exec) (hb : c.code = cc) (hml : c.maxLocals = nL) (hown : s.vm.findClass own = some m.cls) (hts : ∀ w ∈ lw_all, w.before args s = true) (hC : Hcx G A s) (hW : Hw G A τ H) (hS : va_S A s.heap H locs) (hd : eX1_init τ o_ = some out_) (hsz : ls.size = nL) (hrm : (rest.map fun v => v.category).sum ≤ 8) (hR : 6 ≤ R.frames ∧ 133 ≤ R.locals) (hcs : (cells + 15) ≤ R.cells ∧ (slots + 586) ≤ R.slots) (hlk : Cond.methodLink own index yX1_init ∈ lw_all) (hdg : decode cc pc = .ok (.invokespecial index, 3)) (kk : ∀ (H1 : Heap) (locs1 : List Loc), Hw G A out_ H1 → va_S A s.heap H1 locs1 → W p l e R s m args below meth c H1 locs1 (cells + 15) (slots + 586) Q (F0 m (pc + 3) ls (rest))) : W p l e R s m args below meth c H locs cells slots Q (F0 m pc ls (.ref o_ :: rest)) := by
  refine va_callv (va_runI (As := []) (rest := rest) ⟨hx, hb, hml, hown, hts⟩ (wX1_init l hd) (cwI 0 hts (lw_meth q108) rfl rfl rfl (hts _ q66) (hts _ hlk) (hts _ q107) rfl (by decide +kernel) hR) (hr_preS hC hW hS) rfl rfl hsz rfl (lv_room hrm) hdg hcs) hS (fun _ _ h => h) (fun _ h => h) (fun u t H1 locs1 ht hvm hp hB hz hk hS1 => ?_)
  have hW1 : Hw G A out_ t.heap := hB
  rw [ht] at hW1
  exact kk H1 locs1 hW1 hS1
noncomputable def eX1_law (lit_ : Nat → Nat) (τ : HP) (o_ : Nat) (a0 : Int32) : Option ((Int32 × HP) ⊕ (Nat × Nat × HP)) :=
  wt_bd (if a0 < 0 then (some (.inl ())) else (wt_bd (hgI τ o_ [0] 2) fun f6 => if f6 < a0 then (some (.inl ())) else (wt_bd (eX1_need τ (1 : Int32)) fun w9 => wt_rs w9 (fun o11 => wt_bd (hp τ o_ [0] 3 (.int (-1 : Int32))) fun τ12 => wt_lt (hnew τ12 (.inr (3, [.null, .int 0, .int 0, .int 0]))) fun τ14 => wt_bd (hgA τ14 o_ [0] 5) fun ad15 => wt_bd (eX5_init τ14 τ12.2 ad15 a0) fun w17 => wt_ck (hcl w17 τ12.2 = some 3) <| wt_bd (eX5_law lit_ w17 τ12.2) fun w20 => wt_rs w20 (fun o22 => wt_bd (hp o22.2 o_ [0] 0 (.ref o22.1)) fun τ23 => wt_bd (hgA τ23 o_ [0] 0) fun ad25 => wt_bd (hgI τ23 ad25 [1] 7) fun f27 => wt_bd (hp τ23 o_ [0] 2 (.int (0 : Int32))) fun τ29 => some (.inr (.inl (f27, τ29)))) (fun x_ => wt_ck (x_.1 = 4) <| wt_bd (hgI x_.2.2 x_.2.1 [4] 7) fun f32 => wt_bd (hp x_.2.2 o_ [0] 3 (.int f32)) fun τ34 => wt_bd (hgI τ34 x_.2.1 [4] 6) fun f36 => wt_lt ((f36 - (10 : Int32))) fun n38 => wt_bd (hp τ34 o_ [0] 2 (.int (0 : Int32))) fun τ39 => some (.inr (.inl (n38, τ39))))) (fun x_ => some (.inr (.inr x_)))))) fun w1 => wt_rs w1 (fun w1 => wt_bd (eX1_need τ (0 : Int32)) fun w41 => wt_rs w41 (fun o43 => wt_bd (hp τ o_ [0] 3 (.int (-1 : Int32))) fun τ44 => wt_lt (hnew τ44 (.inr (3, [.null, .int 0, .int 0, .int 0]))) fun τ46 => wt_bd (hgA τ46 o_ [0] 5) fun ad47 => wt_bd (eX5_init τ46 τ44.2 ad47 a0) fun w49 => wt_ck (hcl w49 τ44.2 = some 3) <| wt_bd (eX5_law lit_ w49 τ44.2) fun w52 => wt_rs w52 (fun o54 => wt_bd (hp o54.2 o_ [0] 0 (.ref o54.1)) fun τ55 => wt_bd (hgA τ55 o_ [0] 0) fun ad57 => wt_bd (hgI τ55 ad57 [1] 7) fun f59 => wt_bd (hp τ55 o_ [0] 2 (.int (0 : Int32))) fun τ61 => some (.inl (f59, τ61))) (fun x_ => wt_ck (x_.1 = 4) <| wt_bd (hgI x_.2.2 x_.2.1 [4] 7) fun f64 => wt_bd (hp x_.2.2 o_ [0] 3 (.int f64)) fun τ66 => wt_bd (hgI τ66 x_.2.1 [4] 6) fun f68 => wt_lt ((f68 - (10 : Int32))) fun n70 => wt_bd (hp τ66 o_ [0] 2 (.int (0 : Int32))) fun τ71 => some (.inl (n70, τ71)))) (fun x_ => some (.inr x_))) (fun z_ => some z_)
set_option maxHeartbeats 4000000 in
theorem wX1_law (l : Launch) (hfl : l.stackTraces = false) {G : HG} {A : Nat → Prop} {τ : HP} {o_ : Nat} {a0 : Int32} {out_ : (Int32 × HP) ⊕ (Nat × Nat × HP)} (hd : eX1_law G.2.2 τ o_ a0 = some out_) : vx_Met l yX1_law (wsW_ yX1_law cX1_law 5 (some .int) [(20, 52, 59, 84), (20, 52, 83, 0), (59, 76, 83, 0), (83, 85, 83, 0)]) ({ frames := 9, cells := 262, slots := 3010, locals := 216 }) (hPc G A τ [.ref o_, .int a0]) (hXi G A (fun r u => Sum.inl (r, u) = out_)) (hXX G A out_) 262 3010 A := by
  refine vx_ofWH (hh := [(20, 52, 59, 84), (20, 52, 83, 0), (59, 76, 83, 0), (83, 85, 83, 0)]) (cc := cX1_law) (maxL := 5) (ret := (some .int)) (by decide) rfl ?_
  intro p_ e_ s_ m_ args_ below_ meth_ c_ s₁_ B hml hv
  obtain ⟨rfl, hW, hC⟩ := hv
  have hx := B.exec
  have hb := B.bytes
  have hr := B.returns
  have hts := atoms_spec (ws := (wsW_ yX1_law cX1_law 5 (some .int) [(20, 52, 59, 84), (20, 52, 83, 0), (59, 76, 83, 0), (83, 85, 83, 0)])) B.pre
  have hts : ∀ w ∈ lw_all, w.before _ s_ = true := fun w h => hts w (List.mem_cons_of_mem _ h)
  have hown : s_.vm.findClass RX1 = some m_.cls := findClass_of_methodNamed B.named
  have htab : c_.exceptionTable.toList = tableOf [(20, 52, 59, 84), (20, 52, 83, 0), (59, 76, 83, 0), (83, 85, 83, 0)] := vx_table (x := yX1_law) B (hts _ q674)
  have hlocks := B.notSynchronized
  have hK := hC.1
  have hT := hC.2.1
  have hL := hC.2.2.1
  have hZ := hC.2.2.2.2.1
  have hA := hC.2.2.2.2.2
  have hS : va_S A s_.heap s_.heap [] := va_S.rf
  have hl := lv_entry ([.ref o_, .int a0]) (n := 5) (Nat.le_of_ble_eq_true rfl)
  rw [lg_entry_eq]
  generalize (lg_sl ([.ref o_, .int a0]) ++ List.replicate (5 - (lg_sl ([.ref o_, .int a0])).length) Slot.unset).toArray = ls at hl ⊢
  have hl : lv_has ls 5 [(0, .ref o_), (1, .int a0)] := hl
  unfold eX1_law at hd
  refine lv_iload_n (pc := 0) hx hb dX1_law_0 rfl (lv_at hl 1 rfl) ?_
  obtain ⟨w1, hj2, hq3⟩ := wt_bd_o hd
  have hX4 : ∀ w1_ : Unit, (Sum.inl w1_ : (Unit) ⊕ _) = w1 → ∀ (H : Heap) (locs : List Loc) (ls : Array Slot), Hw G A τ H → va_S A s_.heap H locs → lv_has ls 5 [(0, .ref o_), (1, .int a0)] → W p_ l e_ (headSpec (wsW_ yX1_law cX1_law 5 (some .int) [(20, 52, 59, 84), (20, 52, 83, 0), (59, 76, 83, 0), (83, 85, 83, 0)]) ({ frames := 9, cells := 262, slots := 3010, locals := 216 })).room s_ m_ ([.ref o_, .int a0] : List Value).toArray below_ meth_ c_ H locs 0 0 (vx_MQ below_ (hXi G A (fun r u => Sum.inl (r, u) = out_)) (hXX G A out_) ([.ref o_, .int a0] : List Value).toArray s_ 262 3010 A) (F0 m_ 16 ls []) := by
    intro w1_ hw_
    have hd := wt_rs_l hw_ hq3
    clear hj2 hq3
    intro H locs ls hW hS hl
    refine lv_iconst (pc := 16) (v := 0) hx hb dX1_law_16 (by decide) ?_
    obtain ⟨w41, hc42, hd⟩ := wt_bd_o hd
    refine kX1_need (pc := 17) hfl hx hb hml hown hts hC hW hS hc42 hl.1 (Nat.le_of_ble_eq_true rfl) ⟨Nat.le_of_ble_eq_true rfl, Nat.le_of_ble_eq_true rfl⟩ ⟨(Nat.le_of_ble_eq_true rfl), (Nat.le_of_ble_eq_true rfl)⟩ q676 dX1_law_17 (fun x_ hx_ E_ ce_ q9_ H locs hXB hS hce hvn hfc => ?_) (fun o43 ho_ H locs hW hS => ?_)
    · have hd := wt_rs_r hx_ hd
      exact hx_out (by rw [htab]; decide) hlocks hce hvn hfc (Option.some.inj hd) hXB hS (Nat.le_of_ble_eq_true rfl) (Nat.le_of_ble_eq_true rfl)
    · have hd := wt_rs_l ho_ hd
      refine lv_aload_n (pc := 20) hx hb dX1_law_20 rfl (lv_at hl 0 rfl) ?_
      refine lv_iconst (pc := 21) (v := -1) hx hb dX1_law_21 (by decide) ?_
      obtain ⟨τ44, h45, hd⟩ := wt_bd_o hd
      refine hr_put (pc := 22) (ty := .int) hx hb hts hown hK hW hS h45 hf_0_3 (by decide +kernel) rfl rfl (fun _ h => h) q539 dX1_law_22 (fun H locs hW hS => ?_)
      refine lv_aload_n (pc := 25) hx hb dX1_law_25 rfl (lv_at hl 0 rfl) ?_
      obtain ⟨τ46, eτ46, hd⟩ := wt_lt_o hd
      refine hr_new (pc := 26) (ci := 3) (fs := [.null, .int 0, .int 0, .int 0]) hx hb hts hown hK hW hS hA rfl tyX5 tyX5_ok (by decide +kernel) q690 q691 q89 eτ46 (Nat.le_of_ble_eq_true rfl) (Nat.le_of_ble_eq_true rfl) dX1_law_26 (fun H hW hS => ?_)
      refine lv_dup (pc := 29) hx hb dX1_law_29 rfl ?_
      refine lv_aload_n (pc := 30) hx hb dX1_law_30 rfl (lv_at hl 0 rfl) ?_
      obtain ⟨ad47, h48, hd⟩ := wt_bd_o hd
      refine hr_get (pc := 31) hx hb hts hown hK hW (hgA_o h48) hf_0_5 (fun _ h => h) q541 dX1_law_31 ?_
      refine lv_iload_n (pc := 34) hx hb dX1_law_34 rfl (lv_at hl 1 rfl) ?_
      obtain ⟨w49, hc50, hd⟩ := wt_bd_o hd
      refine kX5_init (pc := 35) hx hb hml hown hts hC hW hS hc50 hl.1 (Nat.le_of_ble_eq_true rfl) ⟨Nat.le_of_ble_eq_true rfl, Nat.le_of_ble_eq_true rfl⟩ ⟨Nat.le_of_ble_eq_true rfl, Nat.le_of_ble_eq_true rfl⟩ q692 dX1_law_35 (fun H locs hW hS => ?_)
      obtain ⟨h51, hd⟩ := wt_ck_o hd
      obtain ⟨w52, hc53, hd⟩ := wt_bd_o hd
      refine kX5_law (pc := 38) hfl hx hb hml hown hts hC hW hS h51 hc53 hl.1 (Nat.le_of_ble_eq_true rfl) ⟨Nat.le_of_ble_eq_true rfl, Nat.le_of_ble_eq_true rfl⟩ ⟨(Nat.le_of_ble_eq_true rfl), (Nat.le_of_ble_eq_true rfl)⟩ q709 dX1_law_38 (fun x_ hx_ E_ ce_ q9_ H locs hXB hS hce hvn hfc => ?_) (fun o54 ho_ H locs hW hS => ?_)
      · have hd := wt_rs_r hx_ hd
        obtain ⟨h63, hd⟩ := wt_ck_o hd
        refine hx_catchW hown hC [] (⟨20, 52, 59, 84⟩ : ExceptionTableEntry) [(⟨20, 52, 83, 0⟩ : ExceptionTableEntry), (⟨59, 76, 83, 0⟩ : ExceptionTableEntry), (⟨83, 85, 83, 0⟩ : ExceptionTableEntry)] (htab.trans rfl) (by decide) (by decide) (by decide) (hts _ q675) h63 hXB hce hvn hfc (fun hW => ?_)
        refine lv_astore_n (pc := 59) (lv' := [(2, .ref x_.2.1), (0, .ref o_), (1, .int a0)]) hx hb dX1_law_59 rfl hl (by decide) rfl (fun ls hl => ?_)
        refine lv_aload_n (pc := 60) hx hb dX1_law_60 rfl (lv_at hl 1 rfl) ?_
        refine lv_aload_n (pc := 61) hx hb dX1_law_61 rfl (lv_at hl 0 rfl) ?_
        obtain ⟨f64, h65, hd⟩ := wt_bd_o hd
        refine hr_getN (pc := 62) hx hb hts hown hK hT hW (hgI_o h65) hf_4_7 (fun _ h => h) q852 dX1_law_62 ?_
        obtain ⟨τ66, h67, hd⟩ := wt_bd_o hd
        refine hr_put (pc := 65) (ty := .int) hx hb hts hown hK hW hS h67 hf_0_3 (by decide +kernel) rfl rfl (fun _ h => h) q539 dX1_law_65 (fun H locs hW hS => ?_)
        refine lv_aload_n (pc := 68) hx hb dX1_law_68 rfl (lv_at hl 0 rfl) ?_
        obtain ⟨f68, h69, hd⟩ := wt_bd_o hd
        refine hr_getN (pc := 69) hx hb hts hown hK hT hW (hgI_o h69) hf_4_6 (fun _ h => h) q850 dX1_law_69 ?_
        refine lv_bipush (pc := 72) (v := 10) hx hb dX1_law_72 (by decide) ?_
        refine lv_isub (pc := 74) hx hb dX1_law_74 ?_
        obtain ⟨n70, en70, hd⟩ := wt_lt_o hd
        refine lv_tope en70 ?_
        refine lv_istore_n (pc := 75) (lv' := [(3, .int n70), (2, .ref x_.2.1), (0, .ref o_), (1, .int a0)]) hx hb dX1_law_75 rfl hl (by decide) rfl (fun ls hl => ?_)
        refine lv_aload_n (pc := 76) hx hb dX1_law_76 rfl (lv_at hl 2 rfl) ?_
        refine lv_iconst (pc := 77) (v := 0) hx hb dX1_law_77 (by decide) ?_
        obtain ⟨τ71, h72, hd⟩ := wt_bd_o hd
        refine hr_put (pc := 78) (ty := .int) hx hb hts hown hK hW hS h72 hf_0_2 (by decide +kernel) rfl rfl (fun _ h => h) q538 dX1_law_78 (fun H locs hW hS => ?_)
        refine lv_iload_n (pc := 81) hx hb dX1_law_81 rfl (lv_at hl 0 rfl) ?_
        refine vx_ret ?_
        exact hx_iret hx hb hr rfl hlocks (Option.some.inj hd) hW hS dX1_law_82 (Nat.le_of_ble_eq_true rfl) (Nat.le_of_ble_eq_true rfl)
      · have hd := wt_rs_l ho_ hd
        obtain ⟨τ55, h56, hd⟩ := wt_bd_o hd
        refine hr_put (pc := 41) (ty := (.object "WoolThreads$Law")) hx hb hts hown hK hW hS h56 hf_0_0 (by decide +kernel) rfl rfl (fun _ h => h) q534 dX1_law_41 (fun H locs hW hS => ?_)
        refine lv_aload_n (pc := 44) hx hb dX1_law_44 rfl (lv_at hl 0 rfl) ?_
        obtain ⟨ad57, h58, hd⟩ := wt_bd_o hd
        refine hr_get (pc := 45) hx hb hts hown hK hW (hgA_o h58) hf_0_0 (fun _ h => h) q534 dX1_law_45 ?_
        obtain ⟨f59, h60, hd⟩ := wt_bd_o hd
        refine hr_getN (pc := 48) hx hb hts hown hK hT hW (hgI_o h60) hf_1_7 (fun _ h => h) q144 dX1_law_48 ?_
        refine lv_istore_n (pc := 51) (lv' := [(2, .int f59), (0, .ref o_), (1, .int a0)]) hx hb dX1_law_51 rfl hl (by decide) rfl (fun ls hl => ?_)
        refine lv_aload_n (pc := 52) hx hb dX1_law_52 rfl (lv_at hl 1 rfl) ?_
        refine lv_iconst (pc := 53) (v := 0) hx hb dX1_law_53 (by decide) ?_
        obtain ⟨τ61, h62, hd⟩ := wt_bd_o hd
        refine hr_put (pc := 54) (ty := .int) hx hb hts hown hK hW hS h62 hf_0_2 (by decide +kernel) rfl rfl (fun _ h => h) q538 dX1_law_54 (fun H locs hW hS => ?_)
        refine lv_iload_n (pc := 57) hx hb dX1_law_57 rfl (lv_at hl 0 rfl) ?_
        refine vx_ret ?_
        exact hx_iret hx hb hr rfl hlocks (Option.some.inj hd) hW hS dX1_law_58 (Nat.le_of_ble_eq_true rfl) (Nat.le_of_ble_eq_true rfl)
  have hd := hj2
  refine lv_if_lt (pc := 1) (tgt := 16) hx hb dX1_law_1 (by decide) (fun c5 => ?_) (fun c5 => ?_)
  · have hd := wt_it hd c5
    exact hX4 () (Option.some.inj hd) _ _ _ hW hS hl
  · have hd := wt_if hd c5
    refine lv_iload_n (pc := 4) hx hb dX1_law_4 rfl (lv_at hl 1 rfl) ?_
    refine lv_aload_n (pc := 5) hx hb dX1_law_5 rfl (lv_at hl 0 rfl) ?_
    obtain ⟨f6, h7, hd⟩ := wt_bd_o hd
    refine hr_get (pc := 6) hx hb hts hown hK hW (hgI_o h7) hf_0_2 (fun _ h => h) q538 dX1_law_6 ?_
    refine lv_icmp_gt (pc := 9) (tgt := 16) hx hb dX1_law_9 (by decide) (fun c8 => ?_) (fun c8 => ?_)
    · have hd := wt_it hd c8
      exact hX4 () (Option.some.inj hd) _ _ _ hW hS hl
    · have hd := wt_if hd c8
      refine lv_iconst (pc := 12) (v := 1) hx hb dX1_law_12 (by decide) ?_
      refine lv_goto (pc := 13) (tgt := 17) hx hb dX1_law_13 (by decide) ?_
      obtain ⟨w9, hc10, hd⟩ := wt_bd_o hd
      refine kX1_need (pc := 17) hfl hx hb hml hown hts hC hW hS hc10 hl.1 (Nat.le_of_ble_eq_true rfl) ⟨Nat.le_of_ble_eq_true rfl, Nat.le_of_ble_eq_true rfl⟩ ⟨(Nat.le_of_ble_eq_true rfl), (Nat.le_of_ble_eq_true rfl)⟩ q676 dX1_law_17 (fun x_ hx_ E_ ce_ q9_ H locs hXB hS hce hvn hfc => ?_) (fun o11 ho_ H locs hW hS => ?_)
      · have hd := wt_rs_r hx_ hd
        have hd := wt_rs_r (Option.some.inj hd) hq3
        exact hx_out (by rw [htab]; decide) hlocks hce hvn hfc (Option.some.inj hd) hXB hS (Nat.le_of_ble_eq_true rfl) (Nat.le_of_ble_eq_true rfl)
      · have hd := wt_rs_l ho_ hd
        refine lv_aload_n (pc := 20) hx hb dX1_law_20 rfl (lv_at hl 0 rfl) ?_
        refine lv_iconst (pc := 21) (v := -1) hx hb dX1_law_21 (by decide) ?_
        obtain ⟨τ12, h13, hd⟩ := wt_bd_o hd
        refine hr_put (pc := 22) (ty := .int) hx hb hts hown hK hW hS h13 hf_0_3 (by decide +kernel) rfl rfl (fun _ h => h) q539 dX1_law_22 (fun H locs hW hS => ?_)
        refine lv_aload_n (pc := 25) hx hb dX1_law_25 rfl (lv_at hl 0 rfl) ?_
        obtain ⟨τ14, eτ14, hd⟩ := wt_lt_o hd
        refine hr_new (pc := 26) (ci := 3) (fs := [.null, .int 0, .int 0, .int 0]) hx hb hts hown hK hW hS hA rfl tyX5 tyX5_ok (by decide +kernel) q690 q691 q89 eτ14 (Nat.le_of_ble_eq_true rfl) (Nat.le_of_ble_eq_true rfl) dX1_law_26 (fun H hW hS => ?_)
        refine lv_dup (pc := 29) hx hb dX1_law_29 rfl ?_
        refine lv_aload_n (pc := 30) hx hb dX1_law_30 rfl (lv_at hl 0 rfl) ?_
        obtain ⟨ad15, h16, hd⟩ := wt_bd_o hd
        refine hr_get (pc := 31) hx hb hts hown hK hW (hgA_o h16) hf_0_5 (fun _ h => h) q541 dX1_law_31 ?_
        refine lv_iload_n (pc := 34) hx hb dX1_law_34 rfl (lv_at hl 1 rfl) ?_
        obtain ⟨w17, hc18, hd⟩ := wt_bd_o hd
        refine kX5_init (pc := 35) hx hb hml hown hts hC hW hS hc18 hl.1 (Nat.le_of_ble_eq_true rfl) ⟨Nat.le_of_ble_eq_true rfl, Nat.le_of_ble_eq_true rfl⟩ ⟨Nat.le_of_ble_eq_true rfl, Nat.le_of_ble_eq_true rfl⟩ q692 dX1_law_35 (fun H locs hW hS => ?_)
        obtain ⟨h19, hd⟩ := wt_ck_o hd
        obtain ⟨w20, hc21, hd⟩ := wt_bd_o hd
        refine kX5_law (pc := 38) hfl hx hb hml hown hts hC hW hS h19 hc21 hl.1 (Nat.le_of_ble_eq_true rfl) ⟨Nat.le_of_ble_eq_true rfl, Nat.le_of_ble_eq_true rfl⟩ ⟨(Nat.le_of_ble_eq_true rfl), (Nat.le_of_ble_eq_true rfl)⟩ q709 dX1_law_38 (fun x_ hx_ E_ ce_ q9_ H locs hXB hS hce hvn hfc => ?_) (fun o22 ho_ H locs hW hS => ?_)
        · have hd := wt_rs_r hx_ hd
          obtain ⟨h31, hd⟩ := wt_ck_o hd
          refine hx_catchW hown hC [] (⟨20, 52, 59, 84⟩ : ExceptionTableEntry) [(⟨20, 52, 83, 0⟩ : ExceptionTableEntry), (⟨59, 76, 83, 0⟩ : ExceptionTableEntry), (⟨83, 85, 83, 0⟩ : ExceptionTableEntry)] (htab.trans rfl) (by decide) (by decide) (by decide) (hts _ q675) h31 hXB hce hvn hfc (fun hW => ?_)
          refine lv_astore_n (pc := 59) (lv' := [(2, .ref x_.2.1), (0, .ref o_), (1, .int a0)]) hx hb dX1_law_59 rfl hl (by decide) rfl (fun ls hl => ?_)
          refine lv_aload_n (pc := 60) hx hb dX1_law_60 rfl (lv_at hl 1 rfl) ?_
          refine lv_aload_n (pc := 61) hx hb dX1_law_61 rfl (lv_at hl 0 rfl) ?_
          obtain ⟨f32, h33, hd⟩ := wt_bd_o hd
          refine hr_getN (pc := 62) hx hb hts hown hK hT hW (hgI_o h33) hf_4_7 (fun _ h => h) q852 dX1_law_62 ?_
          obtain ⟨τ34, h35, hd⟩ := wt_bd_o hd
          refine hr_put (pc := 65) (ty := .int) hx hb hts hown hK hW hS h35 hf_0_3 (by decide +kernel) rfl rfl (fun _ h => h) q539 dX1_law_65 (fun H locs hW hS => ?_)
          refine lv_aload_n (pc := 68) hx hb dX1_law_68 rfl (lv_at hl 0 rfl) ?_
          obtain ⟨f36, h37, hd⟩ := wt_bd_o hd
          refine hr_getN (pc := 69) hx hb hts hown hK hT hW (hgI_o h37) hf_4_6 (fun _ h => h) q850 dX1_law_69 ?_
          refine lv_bipush (pc := 72) (v := 10) hx hb dX1_law_72 (by decide) ?_
          refine lv_isub (pc := 74) hx hb dX1_law_74 ?_
          obtain ⟨n38, en38, hd⟩ := wt_lt_o hd
          refine lv_tope en38 ?_
          refine lv_istore_n (pc := 75) (lv' := [(3, .int n38), (2, .ref x_.2.1), (0, .ref o_), (1, .int a0)]) hx hb dX1_law_75 rfl hl (by decide) rfl (fun ls hl => ?_)
          refine lv_aload_n (pc := 76) hx hb dX1_law_76 rfl (lv_at hl 2 rfl) ?_
          refine lv_iconst (pc := 77) (v := 0) hx hb dX1_law_77 (by decide) ?_
          obtain ⟨τ39, h40, hd⟩ := wt_bd_o hd
          refine hr_put (pc := 78) (ty := .int) hx hb hts hown hK hW hS h40 hf_0_2 (by decide +kernel) rfl rfl (fun _ h => h) q538 dX1_law_78 (fun H locs hW hS => ?_)
          refine lv_iload_n (pc := 81) hx hb dX1_law_81 rfl (lv_at hl 0 rfl) ?_
          have hd := wt_rs_r (Option.some.inj hd) hq3
          refine vx_ret ?_
          exact hx_iret hx hb hr rfl hlocks (Option.some.inj hd) hW hS dX1_law_82 (Nat.le_of_ble_eq_true rfl) (Nat.le_of_ble_eq_true rfl)
        · have hd := wt_rs_l ho_ hd
          obtain ⟨τ23, h24, hd⟩ := wt_bd_o hd
          refine hr_put (pc := 41) (ty := (.object "WoolThreads$Law")) hx hb hts hown hK hW hS h24 hf_0_0 (by decide +kernel) rfl rfl (fun _ h => h) q534 dX1_law_41 (fun H locs hW hS => ?_)
          refine lv_aload_n (pc := 44) hx hb dX1_law_44 rfl (lv_at hl 0 rfl) ?_
          obtain ⟨ad25, h26, hd⟩ := wt_bd_o hd
          refine hr_get (pc := 45) hx hb hts hown hK hW (hgA_o h26) hf_0_0 (fun _ h => h) q534 dX1_law_45 ?_
          obtain ⟨f27, h28, hd⟩ := wt_bd_o hd
          refine hr_getN (pc := 48) hx hb hts hown hK hT hW (hgI_o h28) hf_1_7 (fun _ h => h) q144 dX1_law_48 ?_
          refine lv_istore_n (pc := 51) (lv' := [(2, .int f27), (0, .ref o_), (1, .int a0)]) hx hb dX1_law_51 rfl hl (by decide) rfl (fun ls hl => ?_)
          refine lv_aload_n (pc := 52) hx hb dX1_law_52 rfl (lv_at hl 1 rfl) ?_
          refine lv_iconst (pc := 53) (v := 0) hx hb dX1_law_53 (by decide) ?_
          obtain ⟨τ29, h30, hd⟩ := wt_bd_o hd
          refine hr_put (pc := 54) (ty := .int) hx hb hts hown hK hW hS h30 hf_0_2 (by decide +kernel) rfl rfl (fun _ h => h) q538 dX1_law_54 (fun H locs hW hS => ?_)
          refine lv_iload_n (pc := 57) hx hb dX1_law_57 rfl (lv_at hl 0 rfl) ?_
          have hd := wt_rs_r (Option.some.inj hd) hq3
          refine vx_ret ?_
          exact hx_iret hx hb hr rfl hlocks (Option.some.inj hd) hW hS dX1_law_58 (Nat.le_of_ble_eq_true rfl) (Nat.le_of_ble_eq_true rfl)
theorem kX1_law {p : Program} {l : Launch} {e : Env} {R : Room} {s : State} {m : MethodId} {args : Array Value} {below : List Frame} {meth : Method} {c : Code} {H : Heap} {locs : List Loc} {cells slots : Nat} {Q : State → Prop} {cc : ByteArray} {pc : Nat} {ls : Array Slot} {rest : List Value} {nL : Nat} {own : String} {index : Nat} {G : HG} {A : Nat → Prop} {τ : HP} {o_ : Nat} {a0 : Int32} {out_ : (Int32 × HP) ⊕ (Nat × Nat × HP)} (hfl : l.stackTraces = false) (hx : p.tables.exec = Jvm.exec) (hb : c.code = cc) (hml : c.maxLocals = nL) (hown : s.vm.findClass own = some m.cls) (hts : ∀ w ∈ lw_all, w.before args s = true) (hC : Hcx G A s) (hW : Hw G A τ H) (hS : va_S A s.heap H locs) (hrc : hcl τ o_ = some 0) (hd : eX1_law G.2.2 τ o_ a0 = some out_) (hsz : ls.size = nL) (hrm : (rest.map fun v => v.category).sum ≤ 8) (hR : 10 ≤ R.frames ∧ 240 ≤ R.locals) (hcs : (cells + 262) ≤ R.cells ∧ (slots + 3010) ≤ R.slots) (hlk : Cond.methodLink own index yX1_law ∈ lw_all) (hdg : decode cc pc = .ok (.invokevirtual index, 3)) (kx : ∀ x_ : Nat × Nat × HP, Sum.inr x_ = out_ → ∀ (E : String) (ce : Cell) (q9 : Addr) (H1 : Heap) (locs1 : List Loc), hXb G A E q9 x_ H1 → va_S A s.heap H1 locs1 → H1[q9]? = some ce → ce.vm = .none → s.vm.findClass E = some ce.cls → vx_W p l e R s m args below meth c H1 locs1 (cells + 262) (slots + 3010) Q (F0 m pc ls rest) q9) (kk : ∀ o_1 : Int32 × HP, Sum.inl o_1 = out_ → ∀ (H1 : Heap) (locs1 : List Loc), Hw G A o_1.2 H1 → va_S A s.heap H1 locs1 → W p l e R s m args below meth c H1 locs1 (cells + 262) (slots + 3010) Q (F0 m (pc + 3) ls (.int o_1.1 :: rest))) : W p l e R s m args below meth c H locs cells slots Q (F0 m pc ls (.int a0 :: .ref o_ :: rest)) := by
  refine vx_calli (vx_runVX (As := [.int a0]) (rest := rest) ⟨hx, hb, hml, hown, hts⟩ (wX1_law l hfl hd) (vx_cwVW 1 hts (lw_VW hlk q672 q673 q66 q674) rfl rfl rfl (by decide +kernel) hR) (hr_preV hC hW hS hrc rfl rfl) rfl rfl hsz rfl (lv_room hrm) hdg hcs) hS (fun _ _ h => h) (fun _ h => h) (fun _ _ h => h) (fun E ce q9 u t H1 locs1 ht hvm hp hB hz hk hS1 hce hvn hfc => ?_) (fun r u t H1 locs1 ht hvm hp hB hz hk hS1 => ?_)
  · rw [ht] at hB
    exact kx u hp E ce q9 H1 locs1 hB hS1 hce hvn hfc
  · have hW1 : Hw G A u t.heap := hB
    rw [ht] at hW1
    exact kk (r, u) hp H1 locs1 hW1 hS1
noncomputable def eX1_story (lit_ : Nat → Nat) (τ : HP) (o_ : Nat) (a0 : Int32) : Option ((Int32 × HP) ⊕ (Nat × Nat × HP)) :=
  wt_bd (if a0 < 0 then (some (.inl ())) else (wt_bd (hgI τ o_ [0] 2) fun f6 => if f6 < a0 then (some (.inl ())) else (if (300 : Int32) < a0 then (some (.inl ())) else (wt_bd (eX1_need τ (1 : Int32)) fun w10 => wt_rs w10 (fun o12 => wt_bd (hp τ o_ [0] 3 (.int (-1 : Int32))) fun τ13 => wt_bd (hgA τ13 o_ [0] 6) fun ad15 => wt_ck (hcl τ13 ad15 = some 13) <| wt_bd (eJ2_size τ13 ad15) fun w18 => if w18 = (4 : Int32) then (wt_bd (hp τ13 o_ [0] 2 (.int (0 : Int32))) fun τ53 => some (.inr (.inl ((-1 : Int32), τ53)))) else (wt_bd (hgA τ13 o_ [0] 6) fun ad21 => wt_lt (hnew τ13 (.inr (3, [.null, .int 0, .int 0, .int 0]))) fun τ23 => wt_bd (hgA τ23 o_ [0] 5) fun ad24 => wt_bd (eX5_init τ23 τ13.2 ad24 a0) fun w26 => wt_ck (hcl w26 τ13.2 = some 3) <| wt_bd (eX5_story lit_ w26 τ13.2) fun w29 => wt_rs w29 (fun o31 => wt_ck (hcl o31.2 ad21 = some 13) <| wt_bd (eJ2_add o31.2 ad21 o31.1) fun w33 => wt_bd (hgA w33.2 o_ [0] 6) fun ad35 => wt_ck (hcl w33.2 ad35 = some 13) <| wt_bd (eJ2_size w33.2 ad35) fun w38 => wt_lt ((w38 - (1 : Int32))) fun n40 => wt_bd (hp w33.2 o_ [0] 2 (.int (0 : Int32))) fun τ41 => some (.inr (.inl (n40, τ41)))) (fun x_ => wt_ck (x_.1 = 4) <| wt_bd (hgI x_.2.2 x_.2.1 [4] 7) fun f44 => wt_bd (hp x_.2.2 o_ [0] 3 (.int f44)) fun τ46 => wt_bd (hgI τ46 x_.2.1 [4] 6) fun f48 => wt_lt ((f48 - (10 : Int32))) fun n50 => wt_bd (hp τ46 o_ [0] 2 (.int (0 : Int32))) fun τ51 => some (.inr (.inl (n50, τ51)))))) (fun x_ => some (.inr (.inr x_))))))) fun w1 => wt_rs w1 (fun w1 => wt_bd (eX1_need τ (0 : Int32)) fun w55 => wt_rs w55 (fun o57 => wt_bd (hp τ o_ [0] 3 (.int (-1 : Int32))) fun τ58 => wt_bd (hgA τ58 o_ [0] 6) fun ad60 => wt_ck (hcl τ58 ad60 = some 13) <| wt_bd (eJ2_size τ58 ad60) fun w63 => if w63 = (4 : Int32) then (wt_bd (hp τ58 o_ [0] 2 (.int (0 : Int32))) fun τ98 => some (.inl ((-1 : Int32), τ98))) else (wt_bd (hgA τ58 o_ [0] 6) fun ad66 => wt_lt (hnew τ58 (.inr (3, [.null, .int 0, .int 0, .int 0]))) fun τ68 => wt_bd (hgA τ68 o_ [0] 5) fun ad69 => wt_bd (eX5_init τ68 τ58.2 ad69 a0) fun w71 => wt_ck (hcl w71 τ58.2 = some 3) <| wt_bd (eX5_story lit_ w71 τ58.2) fun w74 => wt_rs w74 (fun o76 => wt_ck (hcl o76.2 ad66 = some 13) <| wt_bd (eJ2_add o76.2 ad66 o76.1) fun w78 => wt_bd (hgA w78.2 o_ [0] 6) fun ad80 => wt_ck (hcl w78.2 ad80 = some 13) <| wt_bd (eJ2_size w78.2 ad80) fun w83 => wt_lt ((w83 - (1 : Int32))) fun n85 => wt_bd (hp w78.2 o_ [0] 2 (.int (0 : Int32))) fun τ86 => some (.inl (n85, τ86))) (fun x_ => wt_ck (x_.1 = 4) <| wt_bd (hgI x_.2.2 x_.2.1 [4] 7) fun f89 => wt_bd (hp x_.2.2 o_ [0] 3 (.int f89)) fun τ91 => wt_bd (hgI τ91 x_.2.1 [4] 6) fun f93 => wt_lt ((f93 - (10 : Int32))) fun n95 => wt_bd (hp τ91 o_ [0] 2 (.int (0 : Int32))) fun τ96 => some (.inl (n95, τ96))))) (fun x_ => some (.inr x_))) (fun z_ => some z_)
set_option maxHeartbeats 4000000 in
theorem wX1_story (l : Launch) (hfl : l.stackTraces = false) {G : HG} {A : Nat → Prop} {τ : HP} {o_ : Nat} {a0 : Int32} {out_ : (Int32 × HP) ⊕ (Nat × Nat × HP)} (hd : eX1_story G.2.2 τ o_ a0 = some out_) : vx_Met l yX1_story (wsW_ yX1_story cX1_story 5 (some .int) [(27, 45, 92, 84), (52, 85, 92, 84), (27, 45, 116, 0), (52, 85, 116, 0), (92, 109, 116, 0), (116, 118, 116, 0)]) ({ frames := 11, cells := 503, slots := 6042, locals := 255 }) (hPc G A τ [.ref o_, .int a0]) (hXi G A (fun r u => Sum.inl (r, u) = out_)) (hXX G A out_) 503 6042 A := by
  refine vx_ofWH (hh := [(27, 45, 92, 84), (52, 85, 92, 84), (27, 45, 116, 0), (52, 85, 116, 0), (92, 109, 116, 0), (116, 118, 116, 0)]) (cc := cX1_story) (maxL := 5) (ret := (some .int)) (by decide) rfl ?_
  intro p_ e_ s_ m_ args_ below_ meth_ c_ s₁_ B hml hv
  obtain ⟨rfl, hW, hC⟩ := hv
  have hx := B.exec
  have hb := B.bytes
  have hr := B.returns
  have hts := atoms_spec (ws := (wsW_ yX1_story cX1_story 5 (some .int) [(27, 45, 92, 84), (52, 85, 92, 84), (27, 45, 116, 0), (52, 85, 116, 0), (92, 109, 116, 0), (116, 118, 116, 0)])) B.pre
  have hts : ∀ w ∈ lw_all, w.before _ s_ = true := fun w h => hts w (List.mem_cons_of_mem _ h)
  have hown : s_.vm.findClass RX1 = some m_.cls := findClass_of_methodNamed B.named
  have htab : c_.exceptionTable.toList = tableOf [(27, 45, 92, 84), (52, 85, 92, 84), (27, 45, 116, 0), (52, 85, 116, 0), (92, 109, 116, 0), (116, 118, 116, 0)] := vx_table (x := yX1_story) B (hts _ q883)
  have hlocks := B.notSynchronized
  have hK := hC.1
  have hT := hC.2.1
  have hL := hC.2.2.1
  have hZ := hC.2.2.2.2.1
  have hA := hC.2.2.2.2.2
  have hS : va_S A s_.heap s_.heap [] := va_S.rf
  have hl := lv_entry ([.ref o_, .int a0]) (n := 5) (Nat.le_of_ble_eq_true rfl)
  rw [lg_entry_eq]
  generalize (lg_sl ([.ref o_, .int a0]) ++ List.replicate (5 - (lg_sl ([.ref o_, .int a0])).length) Slot.unset).toArray = ls at hl ⊢
  have hl : lv_has ls 5 [(0, .ref o_), (1, .int a0)] := hl
  unfold eX1_story at hd
  refine lv_iload_n (pc := 0) hx hb dX1_story_0 rfl (lv_at hl 1 rfl) ?_
  obtain ⟨w1, hj2, hq3⟩ := wt_bd_o hd
  have hX4 : ∀ w1_ : Unit, (Sum.inl w1_ : (Unit) ⊕ _) = w1 → ∀ (H : Heap) (locs : List Loc) (ls : Array Slot), Hw G A τ H → va_S A s_.heap H locs → lv_has ls 5 [(0, .ref o_), (1, .int a0)] → W p_ l e_ (headSpec (wsW_ yX1_story cX1_story 5 (some .int) [(27, 45, 92, 84), (52, 85, 92, 84), (27, 45, 116, 0), (52, 85, 116, 0), (92, 109, 116, 0), (116, 118, 116, 0)]) ({ frames := 11, cells := 503, slots := 6042, locals := 255 })).room s_ m_ ([.ref o_, .int a0] : List Value).toArray below_ meth_ c_ H locs 0 0 (vx_MQ below_ (hXi G A (fun r u => Sum.inl (r, u) = out_)) (hXX G A out_) ([.ref o_, .int a0] : List Value).toArray s_ 503 6042 A) (F0 m_ 23 ls []) := by
    intro w1_ hw_
    have hd := wt_rs_l hw_ hq3
    clear hj2 hq3
    intro H locs ls hW hS hl
    refine lv_iconst (pc := 23) (v := 0) hx hb dX1_story_23 (by decide) ?_
    obtain ⟨w55, hc56, hd⟩ := wt_bd_o hd
    refine kX1_need (pc := 24) hfl hx hb hml hown hts hC hW hS hc56 hl.1 (Nat.le_of_ble_eq_true rfl) ⟨Nat.le_of_ble_eq_true rfl, Nat.le_of_ble_eq_true rfl⟩ ⟨(Nat.le_of_ble_eq_true rfl), (Nat.le_of_ble_eq_true rfl)⟩ q676 dX1_story_24 (fun x_ hx_ E_ ce_ q9_ H locs hXB hS hce hvn hfc => ?_) (fun o57 ho_ H locs hW hS => ?_)
    · have hd := wt_rs_r hx_ hd
      exact hx_out (by rw [htab]; decide) hlocks hce hvn hfc (Option.some.inj hd) hXB hS (Nat.le_of_ble_eq_true rfl) (Nat.le_of_ble_eq_true rfl)
    · have hd := wt_rs_l ho_ hd
      refine lv_aload_n (pc := 27) hx hb dX1_story_27 rfl (lv_at hl 0 rfl) ?_
      refine lv_iconst (pc := 28) (v := -1) hx hb dX1_story_28 (by decide) ?_
      obtain ⟨τ58, h59, hd⟩ := wt_bd_o hd
      refine hr_put (pc := 29) (ty := .int) hx hb hts hown hK hW hS h59 hf_0_3 (by decide +kernel) rfl rfl (fun _ h => h) q539 dX1_story_29 (fun H locs hW hS => ?_)
      refine lv_aload_n (pc := 32) hx hb dX1_story_32 rfl (lv_at hl 0 rfl) ?_
      obtain ⟨ad60, h61, hd⟩ := wt_bd_o hd
      refine hr_get (pc := 33) hx hb hts hown hK hW (hgA_o h61) hf_0_6 (fun _ h => h) q542 dX1_story_33 ?_
      obtain ⟨h62, hd⟩ := wt_ck_o hd
      obtain ⟨w63, hc64, hd⟩ := wt_bd_o hd
      refine kJ2_size (pc := 36) hx hb hml hown hts hC hW hS h62 hc64 hl.1 (Nat.le_of_ble_eq_true rfl) ⟨Nat.le_of_ble_eq_true rfl, Nat.le_of_ble_eq_true rfl⟩ ⟨Nat.le_of_ble_eq_true rfl, Nat.le_of_ble_eq_true rfl⟩ q666 dX1_story_36 (fun H locs hW hS => ?_)
      refine lv_iconst (pc := 39) (v := 4) hx hb dX1_story_39 (by decide) ?_
      refine lv_icmp_ne (pc := 40) (tgt := 52) hx hb dX1_story_40 (by decide) (fun c65 => ?_) (fun c65 => ?_)
      · have hd := wt_if hd c65
        refine lv_aload_n (pc := 52) hx hb dX1_story_52 rfl (lv_at hl 0 rfl) ?_
        obtain ⟨ad66, h67, hd⟩ := wt_bd_o hd
        refine hr_get (pc := 53) hx hb hts hown hK hW (hgA_o h67) hf_0_6 (fun _ h => h) q542 dX1_story_53 ?_
        obtain ⟨τ68, eτ68, hd⟩ := wt_lt_o hd
        refine hr_new (pc := 56) (ci := 3) (fs := [.null, .int 0, .int 0, .int 0]) hx hb hts hown hK hW hS hA rfl tyX5 tyX5_ok (by decide +kernel) q690 q691 q89 eτ68 (Nat.le_of_ble_eq_true rfl) (Nat.le_of_ble_eq_true rfl) dX1_story_56 (fun H hW hS => ?_)
        refine lv_dup (pc := 59) hx hb dX1_story_59 rfl ?_
        refine lv_aload_n (pc := 60) hx hb dX1_story_60 rfl (lv_at hl 0 rfl) ?_
        obtain ⟨ad69, h70, hd⟩ := wt_bd_o hd
        refine hr_get (pc := 61) hx hb hts hown hK hW (hgA_o h70) hf_0_5 (fun _ h => h) q541 dX1_story_61 ?_
        refine lv_iload_n (pc := 64) hx hb dX1_story_64 rfl (lv_at hl 1 rfl) ?_
        obtain ⟨w71, hc72, hd⟩ := wt_bd_o hd
        refine kX5_init (pc := 65) hx hb hml hown hts hC hW hS hc72 hl.1 (Nat.le_of_ble_eq_true rfl) ⟨Nat.le_of_ble_eq_true rfl, Nat.le_of_ble_eq_true rfl⟩ ⟨Nat.le_of_ble_eq_true rfl, Nat.le_of_ble_eq_true rfl⟩ q692 dX1_story_65 (fun H locs hW hS => ?_)
        obtain ⟨h73, hd⟩ := wt_ck_o hd
        obtain ⟨w74, hc75, hd⟩ := wt_bd_o hd
        refine kX5_story (pc := 68) hfl hx hb hml hown hts hC hW hS h73 hc75 hl.1 (Nat.le_of_ble_eq_true rfl) ⟨Nat.le_of_ble_eq_true rfl, Nat.le_of_ble_eq_true rfl⟩ ⟨(Nat.le_of_ble_eq_true rfl), (Nat.le_of_ble_eq_true rfl)⟩ q884 dX1_story_68 (fun x_ hx_ E_ ce_ q9_ H locs hXB hS hce hvn hfc => ?_) (fun o76 ho_ H locs hW hS => ?_)
        · have hd := wt_rs_r hx_ hd
          obtain ⟨h88, hd⟩ := wt_ck_o hd
          refine hx_catchW hown hC [(⟨27, 45, 92, 84⟩ : ExceptionTableEntry)] (⟨52, 85, 92, 84⟩ : ExceptionTableEntry) [(⟨27, 45, 116, 0⟩ : ExceptionTableEntry), (⟨52, 85, 116, 0⟩ : ExceptionTableEntry), (⟨92, 109, 116, 0⟩ : ExceptionTableEntry), (⟨116, 118, 116, 0⟩ : ExceptionTableEntry)] (htab.trans rfl) (by decide) (by decide) (by decide) (hts _ q675) h88 hXB hce hvn hfc (fun hW => ?_)
          refine lv_astore_n (pc := 92) (lv' := [(2, .ref x_.2.1), (0, .ref o_), (1, .int a0)]) hx hb dX1_story_92 rfl hl (by decide) rfl (fun ls hl => ?_)
          refine lv_aload_n (pc := 93) hx hb dX1_story_93 rfl (lv_at hl 1 rfl) ?_
          refine lv_aload_n (pc := 94) hx hb dX1_story_94 rfl (lv_at hl 0 rfl) ?_
          obtain ⟨f89, h90, hd⟩ := wt_bd_o hd
          refine hr_getN (pc := 95) hx hb hts hown hK hT hW (hgI_o h90) hf_4_7 (fun _ h => h) q852 dX1_story_95 ?_
          obtain ⟨τ91, h92, hd⟩ := wt_bd_o hd
          refine hr_put (pc := 98) (ty := .int) hx hb hts hown hK hW hS h92 hf_0_3 (by decide +kernel) rfl rfl (fun _ h => h) q539 dX1_story_98 (fun H locs hW hS => ?_)
          refine lv_aload_n (pc := 101) hx hb dX1_story_101 rfl (lv_at hl 0 rfl) ?_
          obtain ⟨f93, h94, hd⟩ := wt_bd_o hd
          refine hr_getN (pc := 102) hx hb hts hown hK hT hW (hgI_o h94) hf_4_6 (fun _ h => h) q850 dX1_story_102 ?_
          refine lv_bipush (pc := 105) (v := 10) hx hb dX1_story_105 (by decide) ?_
          refine lv_isub (pc := 107) hx hb dX1_story_107 ?_
          obtain ⟨n95, en95, hd⟩ := wt_lt_o hd
          refine lv_tope en95 ?_
          refine lv_istore_n (pc := 108) (lv' := [(3, .int n95), (2, .ref x_.2.1), (0, .ref o_), (1, .int a0)]) hx hb dX1_story_108 rfl hl (by decide) rfl (fun ls hl => ?_)
          refine lv_aload_n (pc := 109) hx hb dX1_story_109 rfl (lv_at hl 2 rfl) ?_
          refine lv_iconst (pc := 110) (v := 0) hx hb dX1_story_110 (by decide) ?_
          obtain ⟨τ96, h97, hd⟩ := wt_bd_o hd
          refine hr_put (pc := 111) (ty := .int) hx hb hts hown hK hW hS h97 hf_0_2 (by decide +kernel) rfl rfl (fun _ h => h) q538 dX1_story_111 (fun H locs hW hS => ?_)
          refine lv_iload_n (pc := 114) hx hb dX1_story_114 rfl (lv_at hl 0 rfl) ?_
          refine vx_ret ?_
          exact hx_iret hx hb hr rfl hlocks (Option.some.inj hd) hW hS dX1_story_115 (Nat.le_of_ble_eq_true rfl) (Nat.le_of_ble_eq_true rfl)
        · have hd := wt_rs_l ho_ hd
          obtain ⟨h77, hd⟩ := wt_ck_o hd
          obtain ⟨w78, hc79, hd⟩ := wt_bd_o hd
          refine kJ2_add (pc := 71) hx hb hml hown hts hC hW hS h77 hc79 hl.1 (Nat.le_of_ble_eq_true rfl) ⟨Nat.le_of_ble_eq_true rfl, Nat.le_of_ble_eq_true rfl⟩ ⟨(Nat.le_of_ble_eq_true rfl), (Nat.le_of_ble_eq_true rfl)⟩ q970 dX1_story_71 (fun H locs hW hS => ?_)
          refine lv_pop (pc := 74) hx hb dX1_story_74 rfl ?_
          refine lv_aload_n (pc := 75) hx hb dX1_story_75 rfl (lv_at hl 0 rfl) ?_
          obtain ⟨ad80, h81, hd⟩ := wt_bd_o hd
          refine hr_get (pc := 76) hx hb hts hown hK hW (hgA_o h81) hf_0_6 (fun _ h => h) q542 dX1_story_76 ?_
          obtain ⟨h82, hd⟩ := wt_ck_o hd
          obtain ⟨w83, hc84, hd⟩ := wt_bd_o hd
          refine kJ2_size (pc := 79) hx hb hml hown hts hC hW hS h82 hc84 hl.1 (Nat.le_of_ble_eq_true rfl) ⟨Nat.le_of_ble_eq_true rfl, Nat.le_of_ble_eq_true rfl⟩ ⟨Nat.le_of_ble_eq_true rfl, Nat.le_of_ble_eq_true rfl⟩ q666 dX1_story_79 (fun H locs hW hS => ?_)
          refine lv_iconst (pc := 82) (v := 1) hx hb dX1_story_82 (by decide) ?_
          refine lv_isub (pc := 83) hx hb dX1_story_83 ?_
          obtain ⟨n85, en85, hd⟩ := wt_lt_o hd
          refine lv_tope en85 ?_
          refine lv_istore_n (pc := 84) (lv' := [(2, .int n85), (0, .ref o_), (1, .int a0)]) hx hb dX1_story_84 rfl hl (by decide) rfl (fun ls hl => ?_)
          refine lv_aload_n (pc := 85) hx hb dX1_story_85 rfl (lv_at hl 1 rfl) ?_
          refine lv_iconst (pc := 86) (v := 0) hx hb dX1_story_86 (by decide) ?_
          obtain ⟨τ86, h87, hd⟩ := wt_bd_o hd
          refine hr_put (pc := 87) (ty := .int) hx hb hts hown hK hW hS h87 hf_0_2 (by decide +kernel) rfl rfl (fun _ h => h) q538 dX1_story_87 (fun H locs hW hS => ?_)
          refine lv_iload_n (pc := 90) hx hb dX1_story_90 rfl (lv_at hl 0 rfl) ?_
          refine vx_ret ?_
          exact hx_iret hx hb hr rfl hlocks (Option.some.inj hd) hW hS dX1_story_91 (Nat.le_of_ble_eq_true rfl) (Nat.le_of_ble_eq_true rfl)
      · have hd := wt_it hd c65
        refine lv_iconst (pc := 43) (v := -1) hx hb dX1_story_43 (by decide) ?_
        refine lv_istore_n (pc := 44) (lv' := [(2, .int (-1 : Int32)), (0, .ref o_), (1, .int a0)]) hx hb dX1_story_44 rfl hl (by decide) rfl (fun ls hl => ?_)
        refine lv_aload_n (pc := 45) hx hb dX1_story_45 rfl (lv_at hl 1 rfl) ?_
        refine lv_iconst (pc := 46) (v := 0) hx hb dX1_story_46 (by decide) ?_
        obtain ⟨τ98, h99, hd⟩ := wt_bd_o hd
        refine hr_put (pc := 47) (ty := .int) hx hb hts hown hK hW hS h99 hf_0_2 (by decide +kernel) rfl rfl (fun _ h => h) q538 dX1_story_47 (fun H locs hW hS => ?_)
        refine lv_iload_n (pc := 50) hx hb dX1_story_50 rfl (lv_at hl 0 rfl) ?_
        refine vx_ret ?_
        exact hx_iret hx hb hr rfl hlocks (Option.some.inj hd) hW hS dX1_story_51 (Nat.le_of_ble_eq_true rfl) (Nat.le_of_ble_eq_true rfl)
  have hd := hj2
  refine lv_if_lt (pc := 1) (tgt := 23) hx hb dX1_story_1 (by decide) (fun c5 => ?_) (fun c5 => ?_)
  · have hd := wt_it hd c5
    exact hX4 () (Option.some.inj hd) _ _ _ hW hS hl
  · have hd := wt_if hd c5
    refine lv_iload_n (pc := 4) hx hb dX1_story_4 rfl (lv_at hl 1 rfl) ?_
    refine lv_aload_n (pc := 5) hx hb dX1_story_5 rfl (lv_at hl 0 rfl) ?_
    obtain ⟨f6, h7, hd⟩ := wt_bd_o hd
    refine hr_get (pc := 6) hx hb hts hown hK hW (hgI_o h7) hf_0_2 (fun _ h => h) q538 dX1_story_6 ?_
    refine lv_icmp_gt (pc := 9) (tgt := 23) hx hb dX1_story_9 (by decide) (fun c8 => ?_) (fun c8 => ?_)
    · have hd := wt_it hd c8
      exact hX4 () (Option.some.inj hd) _ _ _ hW hS hl
    · have hd := wt_if hd c8
      refine lv_iload_n (pc := 12) hx hb dX1_story_12 rfl (lv_at hl 1 rfl) ?_
      refine lv_sipush (pc := 13) (v := 300) hx hb dX1_story_13 (by decide) ?_
      refine lv_icmp_gt (pc := 16) (tgt := 23) hx hb dX1_story_16 (by decide) (fun c9 => ?_) (fun c9 => ?_)
      · have hd := wt_it hd c9
        exact hX4 () (Option.some.inj hd) _ _ _ hW hS hl
      · have hd := wt_if hd c9
        refine lv_iconst (pc := 19) (v := 1) hx hb dX1_story_19 (by decide) ?_
        refine lv_goto (pc := 20) (tgt := 24) hx hb dX1_story_20 (by decide) ?_
        obtain ⟨w10, hc11, hd⟩ := wt_bd_o hd
        refine kX1_need (pc := 24) hfl hx hb hml hown hts hC hW hS hc11 hl.1 (Nat.le_of_ble_eq_true rfl) ⟨Nat.le_of_ble_eq_true rfl, Nat.le_of_ble_eq_true rfl⟩ ⟨(Nat.le_of_ble_eq_true rfl), (Nat.le_of_ble_eq_true rfl)⟩ q676 dX1_story_24 (fun x_ hx_ E_ ce_ q9_ H locs hXB hS hce hvn hfc => ?_) (fun o12 ho_ H locs hW hS => ?_)
        · have hd := wt_rs_r hx_ hd
          have hd := wt_rs_r (Option.some.inj hd) hq3
          exact hx_out (by rw [htab]; decide) hlocks hce hvn hfc (Option.some.inj hd) hXB hS (Nat.le_of_ble_eq_true rfl) (Nat.le_of_ble_eq_true rfl)
        · have hd := wt_rs_l ho_ hd
          refine lv_aload_n (pc := 27) hx hb dX1_story_27 rfl (lv_at hl 0 rfl) ?_
          refine lv_iconst (pc := 28) (v := -1) hx hb dX1_story_28 (by decide) ?_
          obtain ⟨τ13, h14, hd⟩ := wt_bd_o hd
          refine hr_put (pc := 29) (ty := .int) hx hb hts hown hK hW hS h14 hf_0_3 (by decide +kernel) rfl rfl (fun _ h => h) q539 dX1_story_29 (fun H locs hW hS => ?_)
          refine lv_aload_n (pc := 32) hx hb dX1_story_32 rfl (lv_at hl 0 rfl) ?_
          obtain ⟨ad15, h16, hd⟩ := wt_bd_o hd
          refine hr_get (pc := 33) hx hb hts hown hK hW (hgA_o h16) hf_0_6 (fun _ h => h) q542 dX1_story_33 ?_
          obtain ⟨h17, hd⟩ := wt_ck_o hd
          obtain ⟨w18, hc19, hd⟩ := wt_bd_o hd
          refine kJ2_size (pc := 36) hx hb hml hown hts hC hW hS h17 hc19 hl.1 (Nat.le_of_ble_eq_true rfl) ⟨Nat.le_of_ble_eq_true rfl, Nat.le_of_ble_eq_true rfl⟩ ⟨Nat.le_of_ble_eq_true rfl, Nat.le_of_ble_eq_true rfl⟩ q666 dX1_story_36 (fun H locs hW hS => ?_)
          refine lv_iconst (pc := 39) (v := 4) hx hb dX1_story_39 (by decide) ?_
          refine lv_icmp_ne (pc := 40) (tgt := 52) hx hb dX1_story_40 (by decide) (fun c20 => ?_) (fun c20 => ?_)
          · have hd := wt_if hd c20
            refine lv_aload_n (pc := 52) hx hb dX1_story_52 rfl (lv_at hl 0 rfl) ?_
            obtain ⟨ad21, h22, hd⟩ := wt_bd_o hd
            refine hr_get (pc := 53) hx hb hts hown hK hW (hgA_o h22) hf_0_6 (fun _ h => h) q542 dX1_story_53 ?_
            obtain ⟨τ23, eτ23, hd⟩ := wt_lt_o hd
            refine hr_new (pc := 56) (ci := 3) (fs := [.null, .int 0, .int 0, .int 0]) hx hb hts hown hK hW hS hA rfl tyX5 tyX5_ok (by decide +kernel) q690 q691 q89 eτ23 (Nat.le_of_ble_eq_true rfl) (Nat.le_of_ble_eq_true rfl) dX1_story_56 (fun H hW hS => ?_)
            refine lv_dup (pc := 59) hx hb dX1_story_59 rfl ?_
            refine lv_aload_n (pc := 60) hx hb dX1_story_60 rfl (lv_at hl 0 rfl) ?_
            obtain ⟨ad24, h25, hd⟩ := wt_bd_o hd
            refine hr_get (pc := 61) hx hb hts hown hK hW (hgA_o h25) hf_0_5 (fun _ h => h) q541 dX1_story_61 ?_
            refine lv_iload_n (pc := 64) hx hb dX1_story_64 rfl (lv_at hl 1 rfl) ?_
            obtain ⟨w26, hc27, hd⟩ := wt_bd_o hd
            refine kX5_init (pc := 65) hx hb hml hown hts hC hW hS hc27 hl.1 (Nat.le_of_ble_eq_true rfl) ⟨Nat.le_of_ble_eq_true rfl, Nat.le_of_ble_eq_true rfl⟩ ⟨Nat.le_of_ble_eq_true rfl, Nat.le_of_ble_eq_true rfl⟩ q692 dX1_story_65 (fun H locs hW hS => ?_)
            obtain ⟨h28, hd⟩ := wt_ck_o hd
            obtain ⟨w29, hc30, hd⟩ := wt_bd_o hd
            refine kX5_story (pc := 68) hfl hx hb hml hown hts hC hW hS h28 hc30 hl.1 (Nat.le_of_ble_eq_true rfl) ⟨Nat.le_of_ble_eq_true rfl, Nat.le_of_ble_eq_true rfl⟩ ⟨(Nat.le_of_ble_eq_true rfl), (Nat.le_of_ble_eq_true rfl)⟩ q884 dX1_story_68 (fun x_ hx_ E_ ce_ q9_ H locs hXB hS hce hvn hfc => ?_) (fun o31 ho_ H locs hW hS => ?_)
            · have hd := wt_rs_r hx_ hd
              obtain ⟨h43, hd⟩ := wt_ck_o hd
              refine hx_catchW hown hC [(⟨27, 45, 92, 84⟩ : ExceptionTableEntry)] (⟨52, 85, 92, 84⟩ : ExceptionTableEntry) [(⟨27, 45, 116, 0⟩ : ExceptionTableEntry), (⟨52, 85, 116, 0⟩ : ExceptionTableEntry), (⟨92, 109, 116, 0⟩ : ExceptionTableEntry), (⟨116, 118, 116, 0⟩ : ExceptionTableEntry)] (htab.trans rfl) (by decide) (by decide) (by decide) (hts _ q675) h43 hXB hce hvn hfc (fun hW => ?_)
              refine lv_astore_n (pc := 92) (lv' := [(2, .ref x_.2.1), (0, .ref o_), (1, .int a0)]) hx hb dX1_story_92 rfl hl (by decide) rfl (fun ls hl => ?_)
              refine lv_aload_n (pc := 93) hx hb dX1_story_93 rfl (lv_at hl 1 rfl) ?_
              refine lv_aload_n (pc := 94) hx hb dX1_story_94 rfl (lv_at hl 0 rfl) ?_
              obtain ⟨f44, h45, hd⟩ := wt_bd_o hd
              refine hr_getN (pc := 95) hx hb hts hown hK hT hW (hgI_o h45) hf_4_7 (fun _ h => h) q852 dX1_story_95 ?_
              obtain ⟨τ46, h47, hd⟩ := wt_bd_o hd
              refine hr_put (pc := 98) (ty := .int) hx hb hts hown hK hW hS h47 hf_0_3 (by decide +kernel) rfl rfl (fun _ h => h) q539 dX1_story_98 (fun H locs hW hS => ?_)
              refine lv_aload_n (pc := 101) hx hb dX1_story_101 rfl (lv_at hl 0 rfl) ?_
              obtain ⟨f48, h49, hd⟩ := wt_bd_o hd
              refine hr_getN (pc := 102) hx hb hts hown hK hT hW (hgI_o h49) hf_4_6 (fun _ h => h) q850 dX1_story_102 ?_
              refine lv_bipush (pc := 105) (v := 10) hx hb dX1_story_105 (by decide) ?_
              refine lv_isub (pc := 107) hx hb dX1_story_107 ?_
              obtain ⟨n50, en50, hd⟩ := wt_lt_o hd
              refine lv_tope en50 ?_
              refine lv_istore_n (pc := 108) (lv' := [(3, .int n50), (2, .ref x_.2.1), (0, .ref o_), (1, .int a0)]) hx hb dX1_story_108 rfl hl (by decide) rfl (fun ls hl => ?_)
              refine lv_aload_n (pc := 109) hx hb dX1_story_109 rfl (lv_at hl 2 rfl) ?_
              refine lv_iconst (pc := 110) (v := 0) hx hb dX1_story_110 (by decide) ?_
              obtain ⟨τ51, h52, hd⟩ := wt_bd_o hd
              refine hr_put (pc := 111) (ty := .int) hx hb hts hown hK hW hS h52 hf_0_2 (by decide +kernel) rfl rfl (fun _ h => h) q538 dX1_story_111 (fun H locs hW hS => ?_)
              refine lv_iload_n (pc := 114) hx hb dX1_story_114 rfl (lv_at hl 0 rfl) ?_
              have hd := wt_rs_r (Option.some.inj hd) hq3
              refine vx_ret ?_
              exact hx_iret hx hb hr rfl hlocks (Option.some.inj hd) hW hS dX1_story_115 (Nat.le_of_ble_eq_true rfl) (Nat.le_of_ble_eq_true rfl)
            · have hd := wt_rs_l ho_ hd
              obtain ⟨h32, hd⟩ := wt_ck_o hd
              obtain ⟨w33, hc34, hd⟩ := wt_bd_o hd
              refine kJ2_add (pc := 71) hx hb hml hown hts hC hW hS h32 hc34 hl.1 (Nat.le_of_ble_eq_true rfl) ⟨Nat.le_of_ble_eq_true rfl, Nat.le_of_ble_eq_true rfl⟩ ⟨(Nat.le_of_ble_eq_true rfl), (Nat.le_of_ble_eq_true rfl)⟩ q970 dX1_story_71 (fun H locs hW hS => ?_)
              refine lv_pop (pc := 74) hx hb dX1_story_74 rfl ?_
              refine lv_aload_n (pc := 75) hx hb dX1_story_75 rfl (lv_at hl 0 rfl) ?_
              obtain ⟨ad35, h36, hd⟩ := wt_bd_o hd
              refine hr_get (pc := 76) hx hb hts hown hK hW (hgA_o h36) hf_0_6 (fun _ h => h) q542 dX1_story_76 ?_
              obtain ⟨h37, hd⟩ := wt_ck_o hd
              obtain ⟨w38, hc39, hd⟩ := wt_bd_o hd
              refine kJ2_size (pc := 79) hx hb hml hown hts hC hW hS h37 hc39 hl.1 (Nat.le_of_ble_eq_true rfl) ⟨Nat.le_of_ble_eq_true rfl, Nat.le_of_ble_eq_true rfl⟩ ⟨Nat.le_of_ble_eq_true rfl, Nat.le_of_ble_eq_true rfl⟩ q666 dX1_story_79 (fun H locs hW hS => ?_)
              refine lv_iconst (pc := 82) (v := 1) hx hb dX1_story_82 (by decide) ?_
              refine lv_isub (pc := 83) hx hb dX1_story_83 ?_
              obtain ⟨n40, en40, hd⟩ := wt_lt_o hd
              refine lv_tope en40 ?_
              refine lv_istore_n (pc := 84) (lv' := [(2, .int n40), (0, .ref o_), (1, .int a0)]) hx hb dX1_story_84 rfl hl (by decide) rfl (fun ls hl => ?_)
              refine lv_aload_n (pc := 85) hx hb dX1_story_85 rfl (lv_at hl 1 rfl) ?_
              refine lv_iconst (pc := 86) (v := 0) hx hb dX1_story_86 (by decide) ?_
              obtain ⟨τ41, h42, hd⟩ := wt_bd_o hd
              refine hr_put (pc := 87) (ty := .int) hx hb hts hown hK hW hS h42 hf_0_2 (by decide +kernel) rfl rfl (fun _ h => h) q538 dX1_story_87 (fun H locs hW hS => ?_)
              refine lv_iload_n (pc := 90) hx hb dX1_story_90 rfl (lv_at hl 0 rfl) ?_
              have hd := wt_rs_r (Option.some.inj hd) hq3
              refine vx_ret ?_
              exact hx_iret hx hb hr rfl hlocks (Option.some.inj hd) hW hS dX1_story_91 (Nat.le_of_ble_eq_true rfl) (Nat.le_of_ble_eq_true rfl)
          · have hd := wt_it hd c20
            refine lv_iconst (pc := 43) (v := -1) hx hb dX1_story_43 (by decide) ?_
            refine lv_istore_n (pc := 44) (lv' := [(2, .int (-1 : Int32)), (0, .ref o_), (1, .int a0)]) hx hb dX1_story_44 rfl hl (by decide) rfl (fun ls hl => ?_)
            refine lv_aload_n (pc := 45) hx hb dX1_story_45 rfl (lv_at hl 1 rfl) ?_
            refine lv_iconst (pc := 46) (v := 0) hx hb dX1_story_46 (by decide) ?_
            obtain ⟨τ53, h54, hd⟩ := wt_bd_o hd
            refine hr_put (pc := 47) (ty := .int) hx hb hts hown hK hW hS h54 hf_0_2 (by decide +kernel) rfl rfl (fun _ h => h) q538 dX1_story_47 (fun H locs hW hS => ?_)
            refine lv_iload_n (pc := 50) hx hb dX1_story_50 rfl (lv_at hl 0 rfl) ?_
            have hd := wt_rs_r (Option.some.inj hd) hq3
            refine vx_ret ?_
            exact hx_iret hx hb hr rfl hlocks (Option.some.inj hd) hW hS dX1_story_51 (Nat.le_of_ble_eq_true rfl) (Nat.le_of_ble_eq_true rfl)
theorem kX1_story {p : Program} {l : Launch} {e : Env} {R : Room} {s : State} {m : MethodId} {args : Array Value} {below : List Frame} {meth : Method} {c : Code} {H : Heap} {locs : List Loc} {cells slots : Nat} {Q : State → Prop} {cc : ByteArray} {pc : Nat} {ls : Array Slot} {rest : List Value} {nL : Nat} {own : String} {index : Nat} {G : HG} {A : Nat → Prop} {τ : HP} {o_ : Nat} {a0 : Int32} {out_ : (Int32 × HP) ⊕ (Nat × Nat × HP)} (hfl : l.stackTraces = false) (hx : p.tables.exec = Jvm.exec) (hb : c.code = cc) (hml : c.maxLocals = nL) (hown : s.vm.findClass own = some m.cls) (hts : ∀ w ∈ lw_all, w.before args s = true) (hC : Hcx G A s) (hW : Hw G A τ H) (hS : va_S A s.heap H locs) (hrc : hcl τ o_ = some 0) (hd : eX1_story G.2.2 τ o_ a0 = some out_) (hsz : ls.size = nL) (hrm : (rest.map fun v => v.category).sum ≤ 8) (hR : 12 ≤ R.frames ∧ 279 ≤ R.locals) (hcs : (cells + 503) ≤ R.cells ∧ (slots + 6042) ≤ R.slots) (hlk : Cond.methodLink own index yX1_story ∈ lw_all) (hdg : decode cc pc = .ok (.invokevirtual index, 3)) (kx : ∀ x_ : Nat × Nat × HP, Sum.inr x_ = out_ → ∀ (E : String) (ce : Cell) (q9 : Addr) (H1 : Heap) (locs1 : List Loc), hXb G A E q9 x_ H1 → va_S A s.heap H1 locs1 → H1[q9]? = some ce → ce.vm = .none → s.vm.findClass E = some ce.cls → vx_W p l e R s m args below meth c H1 locs1 (cells + 503) (slots + 6042) Q (F0 m pc ls rest) q9) (kk : ∀ o_1 : Int32 × HP, Sum.inl o_1 = out_ → ∀ (H1 : Heap) (locs1 : List Loc), Hw G A o_1.2 H1 → va_S A s.heap H1 locs1 → W p l e R s m args below meth c H1 locs1 (cells + 503) (slots + 6042) Q (F0 m (pc + 3) ls (.int o_1.1 :: rest))) : W p l e R s m args below meth c H locs cells slots Q (F0 m pc ls (.int a0 :: .ref o_ :: rest)) := by
  refine vx_calli (vx_runVX (As := [.int a0]) (rest := rest) ⟨hx, hb, hml, hown, hts⟩ (wX1_story l hfl hd) (vx_cwVW 1 hts (lw_VW hlk q881 q882 q66 q883) rfl rfl rfl (by decide +kernel) hR) (hr_preV hC hW hS hrc rfl rfl) rfl rfl hsz rfl (lv_room hrm) hdg hcs) hS (fun _ _ h => h) (fun _ h => h) (fun _ _ h => h) (fun E ce q9 u t H1 locs1 ht hvm hp hB hz hk hS1 hce hvn hfc => ?_) (fun r u t H1 locs1 ht hvm hp hB hz hk hS1 => ?_)
  · rw [ht] at hB
    exact kx u hp E ce q9 H1 locs1 hB hS1 hce hvn hfc
  · have hW1 : Hw G A u t.heap := hB
    rw [ht] at hW1
    exact kk (r, u) hp H1 locs1 hW1 hS1
