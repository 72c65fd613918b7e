/-! runs (by gen/comp.py) -/
set_option maxRecDepth 100000
theorem hf_8_6 : hfB [8] 6 "WoolThreads$Run" "this$0" "LWoolThreads;" true = true := by decide +kernel
theorem hf_8_1 : hfB [8] 1 "WoolThreads$Run" "without" "I" false = true := by decide +kernel
theorem hf_8_3 : hfB [8] 3 "WoolThreads$Run" "first" "I" false = true := by decide +kernel
theorem hf_8_0 : hfB [8] 0 "WoolThreads$Run" "events" "Ljava/util/ArrayList;" true = true := by decide +kernel
theorem hf_8_5 : hfB [8] 5 "WoolThreads$Run" "third" "I" false = true := by decide +kernel
theorem hf_8_4 : hfB [8] 4 "WoolThreads$Run" "second" "I" false = true := by decide +kernel
theorem hf_0_0 : hfB [0] 0 "WoolThreads" "law" "LWoolThreads$Law;" false = true := by decide +kernel
theorem hf_8_2 : hfB [8] 2 "WoolThreads$Run" "more" "LWoolThreads$Event;" false = true := by decide +kernel
theorem hf_0_1 : hfB [0] 1 "WoolThreads" "state" "LWoolThreads$State;" false = true := by decide +kernel
noncomputable def eX11_init (τ : HP) (o_ : Nat) (a0 : Nat) (a1 : Nat) : Option (HP) :=
  wt_bd (hp τ o_ [8] 6 (.ref a0)) fun τ1 => wt_bd (hp τ1 o_ [8] 1 (.int (-1 : Int32))) fun τ3 => wt_bd (hp τ3 o_ [8] 3 (.int (-1 : Int32))) fun τ5 => wt_bd (hp τ5 o_ [8] 0 (.ref a1)) fun τ7 => some (τ7)
set_option maxHeartbeats 4000000 in
theorem wX11_init (l : Launch) {G : HG} {A : Nat → Prop} {τ : HP} {o_ : Nat} {a0 : Nat} {a1 : Nat} {out_ : HP} (hd : eX11_init τ o_ a0 a1 = some out_) : Met l yX11_init (ws_ yX11_init cX11_init 3 none) ({ frames := 1, cells := 0, slots := 0, locals := 32 }) (hPc G A τ [.ref o_, .ref a0, .ref a1]) (hQv G out_ A) 0 0 A := by
  refine Met.ofW (cc := cX11_init) (maxL := 3) (ret := none) (by decide) rfl ?_
  intro p_ e_ s_ m_ args_ below_ meth_ c_ s₁_ B hml hv
  obtain ⟨rfl, hW, hC⟩ := hv
  have hx := B.exec
  have hb := B.bytes
  have hr := B.returns
  have hts := atoms_spec (ws := (ws_ yX11_init cX11_init 3 none)) B.pre
  have hts : ∀ w ∈ lw_all, w.before _ s_ = true := fun w h => hts w (List.mem_cons_of_mem _ h)
  have hown : s_.vm.findClass RX11 = some m_.cls := findClass_of_methodNamed B.named
  have hlocks := B.notSynchronized
  have hK := hC.1
  have hT := hC.2.1
  have hL := hC.2.2.1
  have hZ := hC.2.2.2.2.1
  have hA := hC.2.2.2.2.2
  have hin2 : meth_.name = "<init>" := (name_of_methodNamed B.named B.method).1
  have hS : va_S A s_.heap s_.heap [] := va_S.rf
  have hl := lv_entry ([.ref o_, .ref a0, .ref a1]) (n := 3) (Nat.le_of_ble_eq_true rfl)
  rw [lg_entry_eq]
  generalize (lg_sl ([.ref o_, .ref a0, .ref a1]) ++ List.replicate (3 - (lg_sl ([.ref o_, .ref a0, .ref a1])).length) Slot.unset).toArray = ls at hl ⊢
  have hl : lv_has ls 3 [(0, .ref o_), (1, .ref a0), (2, .ref a1)] := hl
  unfold eX11_init at hd
  refine lv_aload_n (pc := 0) hx hb dX11_init_0 rfl (lv_at hl 0 rfl) ?_
  refine lv_aload_n (pc := 1) hx hb dX11_init_1 rfl (lv_at hl 1 rfl) ?_
  obtain ⟨τ1, h2, hd⟩ := wt_bd_o hd
  refine hr_putF (pc := 2) (ty := (.object "WoolThreads")) hx hb hts hown hK hin2 hW hS h2 hf_8_6 (by decide +kernel) rfl rfl q1041 dX11_init_2 (fun H locs hW hS => ?_)
  refine lv_aload_n (pc := 5) hx hb dX11_init_5 rfl (lv_at hl 0 rfl) ?_
  refine W.objInit (g := F0 m_ 6 ls _) hx hb hown (hts _ q1028) (hts _ q110) (hts _ q111) rfl (by rw [hml]; exact hl.1) rfl dX11_init_6 (Nat.le_of_ble_eq_true rfl) (Nat.le_of_ble_eq_true rfl) ?_
  refine W.eq (g2 := F0 m_ 9 ls []) rfl ?_
  refine lv_aload_n (pc := 9) hx hb dX11_init_9 rfl (lv_at hl 0 rfl) ?_
  refine lv_iconst (pc := 10) (v := -1) hx hb dX11_init_10 (by decide) ?_
  obtain ⟨τ3, h4, hd⟩ := wt_bd_o hd
  refine hr_put (pc := 11) (ty := .int) hx hb hts hown hK hW hS h4 hf_8_1 (by decide +kernel) rfl rfl (fun _ h => h) q1031 dX11_init_11 (fun H locs hW hS => ?_)
  refine lv_aload_n (pc := 14) hx hb dX11_init_14 rfl (lv_at hl 0 rfl) ?_
  refine lv_iconst (pc := 15) (v := -1) hx hb dX11_init_15 (by decide) ?_
  obtain ⟨τ5, h6, hd⟩ := wt_bd_o hd
  refine hr_put (pc := 16) (ty := .int) hx hb hts hown hK hW hS h6 hf_8_3 (by decide +kernel) rfl rfl (fun _ h => h) q1035 dX11_init_16 (fun H locs hW hS => ?_)
  refine lv_aload_n (pc := 19) hx hb dX11_init_19 rfl (lv_at hl 0 rfl) ?_
  refine lv_aload_n (pc := 20) hx hb dX11_init_20 rfl (lv_at hl 2 rfl) ?_
  obtain ⟨τ7, h8, hd⟩ := wt_bd_o hd
  refine hr_putF (pc := 21) (ty := (.object "java/util/ArrayList")) hx hb hts hown hK hin2 hW hS h8 hf_8_0 (by decide +kernel) rfl rfl q1029 dX11_init_21 (fun H locs hW hS => ?_)
  exact hr_vret hx hb hr hlocks (Option.some.inj hd) hW hS dX11_init_24 (Nat.le_of_ble_eq_true rfl) (Nat.le_of_ble_eq_true rfl)
theorem kX11_init {p : Program} {l : Launch} {e : Env} {R : Room} {s : State} {m : MethodId} {args : Array Value} {below : List Frame} {meth : Method} {c : Code} {H : Heap} {locs : List Loc} {cells slots : Nat} {Q : State → Prop} {cc : ByteArray} {pc : Nat} {ls : Array Slot} {rest : List Value} {nL : Nat} {own : String} {index : Nat} {G : HG} {A : Nat → Prop} {τ : HP} {o_ : Nat} {a0 : Nat} {a1 : Nat} {out_ : HP} (hx : p.tables.exec = Jvm.exec) (hb : c.code = cc) (hml : c.maxLocals = nL) (hown : s.vm.findClass own = some m.cls) (hts : ∀ w ∈ lw_all, w.before args s = true) (hC : Hcx G A s) (hW : Hw G A τ H) (hS : va_S A s.heap H locs) (hd : eX11_init τ o_ a0 a1 = some out_) (hsz : ls.size = nL) (hrm : (rest.map fun v => v.category).sum ≤ 8) (hR : 2 ≤ R.frames ∧ 54 ≤ R.locals) (hcs : cells ≤ R.cells ∧ slots ≤ R.slots) (hlk : Cond.methodLink own index yX11_init ∈ lw_all) (hdg : decode cc pc = .ok (.invokespecial index, 3)) (kk : ∀ (H1 : Heap) (locs1 : List Loc), Hw G A out_ H1 → va_S A s.heap H1 locs1 → W p l e R s m args below meth c H1 locs1 cells slots Q (F0 m (pc + 3) ls (rest))) : W p l e R s m args below meth c H locs cells slots Q (F0 m pc ls (.ref a1 :: .ref a0 :: .ref o_ :: rest)) := by
  refine va_callv (va_runI (As := [.ref a0, .ref a1]) (rest := rest) ⟨hx, hb, hml, hown, hts⟩ (wX11_init l hd) (cwI 2 hts (lw_meth q1027) rfl rfl rfl (hts _ q97) (hts _ hlk) (hts _ q1026) rfl (by decide +kernel) hR) (hr_preS hC hW hS) rfl rfl hsz rfl (lv_room hrm) hdg hcs) hS (fun _ _ h => h) (fun _ h => h) (fun u t H1 locs1 ht hvm hp hB hz hk hS1 => ?_)
  have hW1 : Hw G A out_ t.heap := hB
  rw [ht] at hW1
  exact kk H1 locs1 hW1 hS1
noncomputable def eX11_isLeftOut (τ : HP) (o_ : Nat) (a0 : Int32) : Option (Int32) :=
  wt_bd (hgA τ o_ [8] 0) fun ad1 => wt_ck (hcl τ ad1 = some 13) <| wt_bd (eJ2_get τ ad1 a0) fun w4 => wt_bd (hcl τ w4) fun c6 => wt_ck (hev c6 = true) <| wt_bd (hgI τ o_ [8] 1) fun f9 => if a0 = f9 then (some (1 : Int32)) else (wt_bd (hgI τ o_ [8] 3) fun f12 => if f12 = (-1 : Int32) then (some (0 : Int32)) else (wt_bd (hcl τ w4) fun c15 => wt_ck (hev c15 = true) <| wt_lt ((if c15 = 6 then 1 else 0 : Int32)) fun n18 => if n18 = 0 then (some (0 : Int32)) else (wt_bd (hgI τ o_ [8] 5) fun f20 => wt_bd (hgI τ o_ [8] 3) fun f22 => wt_bd (eEv_isTouch τ w4 f20 f22) fun w26 => if w26 = 0 then (wt_bd (hgI τ o_ [8] 5) fun f29 => wt_bd (hgI τ o_ [8] 4) fun f31 => wt_bd (eEv_isTouch τ w4 f29 f31) fun w35 => if w35 = 0 then (some (1 : Int32)) else (some (0 : Int32))) else (some (0 : Int32)))))
set_option maxHeartbeats 4000000 in
theorem wX11_isLeftOut (l : Launch) {G : HG} {A : Nat → Prop} {τ : HP} {o_ : Nat} {a0 : Int32} {out_ : Int32} (hd : eX11_isLeftOut τ o_ a0 = some out_) : Met l yX11_isLeftOut (ws_ yX11_isLeftOut cX11_isLeftOut 3 (some .boolean)) ({ frames := 3, cells := 0, slots := 0, locals := 64 }) (hPc G A τ [.ref o_, .int a0]) (hQi G out_ τ A) 0 0 A := by
  refine Met.ofW (cc := cX11_isLeftOut) (maxL := 3) (ret := (some .boolean)) (by decide) rfl ?_
  intro p_ e_ s_ m_ args_ below_ meth_ c_ s₁_ B hml hv
  obtain ⟨rfl, hW, hC⟩ := hv
  have hx := B.exec
  have hb := B.bytes
  have hr := B.returns
  have hts := atoms_spec (ws := (ws_ yX11_isLeftOut cX11_isLeftOut 3 (some .boolean))) B.pre
  have hts : ∀ w ∈ lw_all, w.before _ s_ = true := fun w h => hts w (List.mem_cons_of_mem _ h)
  have hown : s_.vm.findClass RX11 = some m_.cls := findClass_of_methodNamed B.named
  have hlocks := B.notSynchronized
  have hK := hC.1
  have hT := hC.2.1
  have hL := hC.2.2.1
  have hZ := hC.2.2.2.2.1
  have hA := hC.2.2.2.2.2
  have hS : va_S A s_.heap s_.heap [] := va_S.rf
  have hl := lv_entry ([.ref o_, .int a0]) (n := 3) (Nat.le_of_ble_eq_true rfl)
  rw [lg_entry_eq]
  generalize (lg_sl ([.ref o_, .int a0]) ++ List.replicate (3 - (lg_sl ([.ref o_, .int a0])).length) Slot.unset).toArray = ls at hl ⊢
  have hl : lv_has ls 3 [(0, .ref o_), (1, .int a0)] := hl
  unfold eX11_isLeftOut at hd
  refine lv_aload_n (pc := 0) hx hb dX11_isLeftOut_0 rfl (lv_at hl 0 rfl) ?_
  obtain ⟨ad1, h2, hd⟩ := wt_bd_o hd
  refine hr_get (pc := 1) hx hb hts hown hK hW (hgA_o h2) hf_8_0 (fun _ h => h) q1029 dX11_isLeftOut_1 ?_
  refine lv_iload_n (pc := 4) hx hb dX11_isLeftOut_4 rfl (lv_at hl 1 rfl) ?_
  obtain ⟨h3, hd⟩ := wt_ck_o hd
  obtain ⟨w4, hc5, hd⟩ := wt_bd_o hd
  refine kJ2_get (pc := 5) hx hb hml hown hts hC hW hS h3 hc5 hl.1 (Nat.le_of_ble_eq_true rfl) ⟨Nat.le_of_ble_eq_true rfl, Nat.le_of_ble_eq_true rfl⟩ ⟨Nat.le_of_ble_eq_true rfl, Nat.le_of_ble_eq_true rfl⟩ q1096 dX11_isLeftOut_5 (fun H locs hW hS => ?_)
  obtain ⟨c6, h7, hd⟩ := wt_bd_o hd
  obtain ⟨h8, hd⟩ := wt_ck_o hd
  refine hr_castE (pc := 8) hx hb hts hown hC hW h7 h8 q1097 dX11_isLeftOut_8 ?_
  refine lv_astore_n (pc := 11) (lv' := [(2, .ref w4), (0, .ref o_), (1, .int a0)]) hx hb dX11_isLeftOut_11 rfl hl (by decide) rfl (fun ls hl => ?_)
  refine lv_iload_n (pc := 12) hx hb dX11_isLeftOut_12 rfl (lv_at hl 2 rfl) ?_
  refine lv_aload_n (pc := 13) hx hb dX11_isLeftOut_13 rfl (lv_at hl 1 rfl) ?_
  obtain ⟨f9, h10, hd⟩ := wt_bd_o hd
  refine hr_get (pc := 14) hx hb hts hown hK hW (hgI_o h10) hf_8_1 (fun _ h => h) q1031 dX11_isLeftOut_14 ?_
  refine lv_icmp_ne (pc := 17) (tgt := 22) hx hb dX11_isLeftOut_17 (by decide) (fun c11 => ?_) (fun c11 => ?_)
  · have hd := wt_if hd c11
    refine lv_aload_n (pc := 22) hx hb dX11_isLeftOut_22 rfl (lv_at hl 1 rfl) ?_
    obtain ⟨f12, h13, hd⟩ := wt_bd_o hd
    refine hr_get (pc := 23) hx hb hts hown hK hW (hgI_o h13) hf_8_3 (fun _ h => h) q1035 dX11_isLeftOut_23 ?_
    refine lv_iconst (pc := 26) (v := -1) hx hb dX11_isLeftOut_26 (by decide) ?_
    refine lv_icmp_eq (pc := 27) (tgt := 71) hx hb dX11_isLeftOut_27 (by decide) (fun c14 => ?_) (fun c14 => ?_)
    · have hd := wt_it hd c14
      refine lv_iconst (pc := 71) (v := 0) hx hb dX11_isLeftOut_71 (by decide) ?_
      exact hr_iret hx hb hr rfl hlocks (Option.some.inj hd) rfl hW hS dX11_isLeftOut_72 (Nat.le_of_ble_eq_true rfl) (Nat.le_of_ble_eq_true rfl)
    · have hd := wt_if hd c14
      refine lv_aload_n (pc := 30) hx hb dX11_isLeftOut_30 rfl (lv_at hl 0 rfl) ?_
      obtain ⟨c15, h16, hd⟩ := wt_bd_o hd
      obtain ⟨h17, hd⟩ := wt_ck_o hd
      obtain ⟨n18, en18, hd⟩ := wt_lt_o hd
      refine hr_instT (pc := 31) hx hb hts hown hC hW h16 h17 en18 q1102 dX11_isLeftOut_31 ?_
      refine lv_if_eq (pc := 34) (tgt := 71) hx hb dX11_isLeftOut_34 (by decide) (fun c19 => ?_) (fun c19 => ?_)
      · have hd := wt_it hd c19
        refine lv_iconst (pc := 71) (v := 0) hx hb dX11_isLeftOut_71 (by decide) ?_
        exact hr_iret hx hb hr rfl hlocks (Option.some.inj hd) rfl hW hS dX11_isLeftOut_72 (Nat.le_of_ble_eq_true rfl) (Nat.le_of_ble_eq_true rfl)
      · have hd := wt_if hd c19
        refine lv_aload_n (pc := 37) hx hb dX11_isLeftOut_37 rfl (lv_at hl 0 rfl) ?_
        refine lv_aload_n (pc := 38) hx hb dX11_isLeftOut_38 rfl (lv_at hl 1 rfl) ?_
        obtain ⟨f20, h21, hd⟩ := wt_bd_o hd
        refine hr_get (pc := 39) hx hb hts hown hK hW (hgI_o h21) hf_8_5 (fun _ h => h) q1039 dX11_isLeftOut_39 ?_
        refine lv_aload_n (pc := 42) hx hb dX11_isLeftOut_42 rfl (lv_at hl 1 rfl) ?_
        obtain ⟨f22, h23, hd⟩ := wt_bd_o hd
        refine hr_get (pc := 43) hx hb hts hown hK hW (hgI_o h23) hf_8_3 (fun _ h => h) q1035 dX11_isLeftOut_43 ?_
        obtain ⟨w26, h27, hd⟩ := wt_bd_o hd
        refine kEv_isTouch (pc := 46) hx hb hml hown hts hC hW hS h27 hl.1 (Nat.le_of_ble_eq_true rfl) ⟨Nat.le_of_ble_eq_true rfl, Nat.le_of_ble_eq_true rfl⟩ ⟨Nat.le_of_ble_eq_true rfl, Nat.le_of_ble_eq_true rfl⟩ q1103 dX11_isLeftOut_46 (fun H locs hW hS => ?_)
        refine lv_if_ne (pc := 49) (tgt := 71) hx hb dX11_isLeftOut_49 (by decide) (fun c28 => ?_) (fun c28 => ?_)
        · have hd := wt_if hd c28
          refine lv_iconst (pc := 71) (v := 0) hx hb dX11_isLeftOut_71 (by decide) ?_
          exact hr_iret hx hb hr rfl hlocks (Option.some.inj hd) rfl hW hS dX11_isLeftOut_72 (Nat.le_of_ble_eq_true rfl) (Nat.le_of_ble_eq_true rfl)
        · have hd := wt_it hd c28
          refine lv_aload_n (pc := 52) hx hb dX11_isLeftOut_52 rfl (lv_at hl 0 rfl) ?_
          refine lv_aload_n (pc := 53) hx hb dX11_isLeftOut_53 rfl (lv_at hl 1 rfl) ?_
          obtain ⟨f29, h30, hd⟩ := wt_bd_o hd
          refine hr_get (pc := 54) hx hb hts hown hK hW (hgI_o h30) hf_8_5 (fun _ h => h) q1039 dX11_isLeftOut_54 ?_
          refine lv_aload_n (pc := 57) hx hb dX11_isLeftOut_57 rfl (lv_at hl 1 rfl) ?_
          obtain ⟨f31, h32, hd⟩ := wt_bd_o hd
          refine hr_get (pc := 58) hx hb hts hown hK hW (hgI_o h32) hf_8_4 (fun _ h => h) q1037 dX11_isLeftOut_58 ?_
          obtain ⟨w35, h36, hd⟩ := wt_bd_o hd
          refine kEv_isTouch (pc := 61) hx hb hml hown hts hC hW hS h36 hl.1 (Nat.le_of_ble_eq_true rfl) ⟨Nat.le_of_ble_eq_true rfl, Nat.le_of_ble_eq_true rfl⟩ ⟨Nat.le_of_ble_eq_true rfl, Nat.le_of_ble_eq_true rfl⟩ q1103 dX11_isLeftOut_61 (fun H locs hW hS => ?_)
          refine lv_if_ne (pc := 64) (tgt := 71) hx hb dX11_isLeftOut_64 (by decide) (fun c37 => ?_) (fun c37 => ?_)
          · have hd := wt_if hd c37
            refine lv_iconst (pc := 71) (v := 0) hx hb dX11_isLeftOut_71 (by decide) ?_
            exact hr_iret hx hb hr rfl hlocks (Option.some.inj hd) rfl hW hS dX11_isLeftOut_72 (Nat.le_of_ble_eq_true rfl) (Nat.le_of_ble_eq_true rfl)
          · have hd := wt_it hd c37
            refine lv_iconst (pc := 67) (v := 1) hx hb dX11_isLeftOut_67 (by decide) ?_
            refine lv_goto (pc := 68) (tgt := 72) hx hb dX11_isLeftOut_68 (by decide) ?_
            exact hr_iret hx hb hr rfl hlocks (Option.some.inj hd) rfl hW hS dX11_isLeftOut_72 (Nat.le_of_ble_eq_true rfl) (Nat.le_of_ble_eq_true rfl)
  · have hd := wt_it hd c11
    refine lv_iconst (pc := 20) (v := 1) hx hb dX11_isLeftOut_20 (by decide) ?_
    exact hr_iret hx hb hr rfl hlocks (Option.some.inj hd) rfl hW hS dX11_isLeftOut_21 (Nat.le_of_ble_eq_true rfl) (Nat.le_of_ble_eq_true rfl)
theorem kX11_isLeftOut {p : Program} {l : Launch} {e : Env} {R : Room} {s : State} {m : MethodId} {args : Array Value} {below : List Frame} {meth : Method} {c : Code} {H : Heap} {locs : List Loc} {cells slots : Nat} {Q : State → Prop} {cc : ByteArray} {pc : Nat} {ls : Array Slot} {rest : List Value} {nL : Nat} {own : String} {index : Nat} {G : HG} {A : Nat → Prop} {τ : HP} {o_ : Nat} {a0 : Int32} {out_ : Int32} (hx : p.tables.exec = Jvm.exec) (hb : c.code = cc) (hml : c.maxLocals = nL) (hown : s.vm.findClass own = some m.cls) (hts : ∀ w ∈ lw_all, w.before args s = true) (hC : Hcx G A s) (hW : Hw G A τ H) (hS : va_S A s.heap H locs) (hrc : hcl τ o_ = some 8) (hd : eX11_isLeftOut τ o_ a0 = some out_) (hsz : ls.size = nL) (hrm : (rest.map fun v => v.category).sum ≤ 8) (hR : 4 ≤ R.frames ∧ 86 ≤ R.locals) (hcs : cells ≤ R.cells ∧ slots ≤ R.slots) (hlk : Cond.methodLink own index yX11_isLeftOut ∈ lw_all) (hdg : decode cc pc = .ok (.invokevirtual index, 3)) (kk : ∀ (H1 : Heap) (locs1 : List Loc), Hw G A τ H1 → va_S A s.heap H1 locs1 → W p l e R s m args below meth c H1 locs1 cells slots Q (F0 m (pc + 3) ls (.int out_ :: rest))) : W p l e R s m args below meth c H locs cells slots Q (F0 m pc ls (.int a0 :: .ref o_ :: rest)) := by
  refine va_calli (va_runV (As := [.int a0]) (rest := rest) ⟨hx, hb, hml, hown, hts⟩ (wX11_isLeftOut l hd) (cwV 1 hts (lw_V hlk q1100 qs16 q97 q1101) rfl rfl rfl (by decide +kernel) hR) (hr_preV hC hW hS hrc rfl rfl) rfl rfl hsz rfl (lv_room hrm) hdg hcs) hS (fun _ _ h => h) (fun _ h => h) (fun r u t H1 locs1 ht hvm hp hB hz hk hS1 => ?_)
  have hp : r = out_ := hp
  subst hp
  have hW1 : Hw G A τ t.heap := hB
  rw [ht] at hW1
  exact kk H1 locs1 hW1 hS1
noncomputable def bX11_at_2_2 (τ : HP) (o_ : Nat) (a1 : Int32) (v8 : Int32 × Int32 × HP) (v27 : Int32 × HP) : Option ((Int32 × HP) ⊕ ((Int32 × HP) ⊕ ((Int32 × Int32 × HP) ⊕ ((HP) ⊕ (Nat × HP))))) :=
  wt_bd (hgA v27.2 o_ [8] 0) fun ad37 => wt_ck (hcl v27.2 ad37 = some 13) <| wt_bd (eJ2_size v27.2 ad37) fun w40 => if w40 ≤ v27.1 then (some (.inr (.inl (v27.1, v27.2)))) else (wt_bd (hgA v27.2 o_ [8] 0) fun ad43 => wt_ck (hcl v27.2 ad43 = some 13) <| wt_bd (eJ2_get v27.2 ad43 v27.1) fun w46 => wt_bd (hcl v27.2 w46) fun c48 => wt_ck (hev c48 = true) <| wt_bd (hgI v27.2 w46 [5, 6, 7] 1) fun f51 => if f51 = v8.2.1 then (if v27.1 = a1 then (some (.inr (.inr (.inr (.inr (τ.2, v27.2)))))) else (wt_ck (hcl v27.2 o_ = some 8) <| wt_bd (eX11_isLeftOut v27.2 o_ v27.1) fun w56 => if w56 = 0 then (wt_bd (hgA v27.2 o_ [8] 0) fun ad60 => wt_ck (hcl v27.2 ad60 = some 13) <| wt_bd (eJ2_get v27.2 ad60 v27.1) fun w63 => wt_bd (hcl v27.2 w63) fun c65 => wt_ck (hev c65 = true) <| wt_bd (eEv_does v27.2 w63 τ.2) fun w70 => wt_lt (v27.1 + (1 : Int32)) fun n72 => some (.inl (n72, w70))) else (wt_lt (v27.1 + (1 : Int32)) fun n59 => some (.inl (n59, v27.2))))) else (some (.inr (.inl (v27.1, v27.2)))))
noncomputable def bX11_at_2_1 (τ : HP) (o_ : Nat) (a0 : Int32) (a1 : Int32) (v8 : Int32 × Int32 × HP) : Option ((Int32 × Int32 × HP) ⊕ ((HP) ⊕ (Nat × HP))) :=
  if a0 < v8.2.1 then (some (.inr (.inl v8.2.2))) else (wt_bd (if v8.2.1 ≤ 0 then (some (v8.2.2)) else (wt_ck (hcl v8.2.2 τ.2 = some 9) <| wt_bd (eX12_hour v8.2.2 τ.2) fun w25 => some (w25))) fun w19 => wt_bd (wt_whC (bX11_at_2_2 τ o_ a1 v8) (v8.1, w19)) fun w28 => wt_rs w28 (fun w28 => wt_bd (hgR w28.2 o_ [8] 2) fun f73 => wt_om f73 (wt_lt (v8.2.1 + (1 : Int32)) fun n77 => some (.inl (w28.1, n77, w28.2))) (fun ad76 => wt_bd (hgA w28.2 o_ [8] 2) fun ad78 => wt_bd (hgI w28.2 ad78 [5, 6, 7] 1) fun f80 => if f80 = v8.2.1 then (wt_bd (hgA w28.2 o_ [8] 2) fun ad84 => wt_bd (eEv_does w28.2 ad84 τ.2) fun w88 => wt_lt (v8.2.1 + (1 : Int32)) fun n90 => some (.inl (w28.1, n90, w88))) else (wt_lt (v8.2.1 + (1 : Int32)) fun n83 => some (.inl (w28.1, n83, w28.2))))) (fun z_ => some z_))
noncomputable def eX11_at_2 (τ : HP) (o_ : Nat) (a0 : Int32) (a1 : Int32) : Option (Nat × HP) :=
  wt_lt (hnew τ (.inr (9, [.null, .null, .null]))) fun τ1 => wt_bd (hgA τ1 o_ [8] 6) fun ad2 => wt_bd (hgA τ1 ad2 [0] 0) fun ad4 => wt_bd (eX12_init τ1 τ.2 ad4) fun w6 => wt_bd (wt_whC (bX11_at_2_1 τ o_ a0 a1) ((0 : Int32), (0 : Int32), w6)) fun w9 => wt_rs w9 (fun w9 => some (τ.2, w9)) (fun z_ => some z_)
set_option maxHeartbeats 4000000 in
theorem wX11_at_2 (l : Launch) {G : HG} {A : Nat → Prop} {τ : HP} {o_ : Nat} {a0 : Int32} {a1 : Int32} {out_ : Nat × HP} (hd : eX11_at_2 τ o_ a0 a1 = some out_) : Met l yX11_at_2 (ws_ yX11_at_2 cX11_at_2 6 (some (.object "WoolThreads$Scene"))) ({ frames := 4, cells := 3, slots := 113, locals := 86 }) (hPc G A τ [.ref o_, .int a0, .int a1]) (hQr G out_.1 out_.2 A) 3 113 A := by
  refine Met.ofW (cc := cX11_at_2) (maxL := 6) (ret := (some (.object "WoolThreads$Scene"))) (by decide) rfl ?_
  intro p_ e_ s_ m_ args_ below_ meth_ c_ s₁_ B hml hv
  obtain ⟨rfl, hW, hC⟩ := hv
  have hx := B.exec
  have hb := B.bytes
  have hr := B.returns
  have hts := atoms_spec (ws := (ws_ yX11_at_2 cX11_at_2 6 (some (.object "WoolThreads$Scene")))) B.pre
  have hts : ∀ w ∈ lw_all, w.before _ s_ = true := fun w h => hts w (List.mem_cons_of_mem _ h)
  have hown : s_.vm.findClass RX11 = some m_.cls := findClass_of_methodNamed B.named
  have hlocks := B.notSynchronized
  have hK := hC.1
  have hT := hC.2.1
  have hL := hC.2.2.1
  have hZ := hC.2.2.2.2.1
  have hA := hC.2.2.2.2.2
  have hS : va_S A s_.heap s_.heap [] := va_S.rf
  have hl := lv_entry ([.ref o_, .int a0, .int a1]) (n := 6) (Nat.le_of_ble_eq_true rfl)
  rw [lg_entry_eq]
  generalize (lg_sl ([.ref o_, .int a0, .int a1]) ++ List.replicate (6 - (lg_sl ([.ref o_, .int a0, .int a1])).length) Slot.unset).toArray = ls at hl ⊢
  have hl : lv_has ls 6 [(0, .ref o_), (1, .int a0), (2, .int a1)] := hl
  unfold eX11_at_2 at hd
  obtain ⟨τ1, eτ1, hd⟩ := wt_lt_o hd
  refine hr_new (pc := 0) (ci := 9) (fs := [.null, .null, .null]) hx hb hts hown hK hW hS hA rfl tyX12 tyX12_ok (by decide +kernel) q1071 q1072 q98 eτ1 (Nat.le_of_ble_eq_true rfl) (Nat.le_of_ble_eq_true rfl) dX11_at_2_0 (fun H hW hS => ?_)
  refine lv_dup (pc := 3) hx hb dX11_at_2_3 rfl ?_
  refine lv_aload_n (pc := 4) hx hb dX11_at_2_4 rfl (lv_at hl 0 rfl) ?_
  obtain ⟨ad2, h3, hd⟩ := wt_bd_o hd
  refine hr_get (pc := 5) hx hb hts hown hK hW (hgA_o h3) hf_8_6 (fun _ h => h) q1041 dX11_at_2_5 ?_
  obtain ⟨ad4, h5, hd⟩ := wt_bd_o hd
  refine hr_getN (pc := 8) hx hb hts hown hK hT hW (hgA_o h5) hf_0_0 (fun _ h => h) q535 dX11_at_2_8 ?_
  obtain ⟨w6, hc7, hd⟩ := wt_bd_o hd
  refine kX12_init (pc := 11) hx hb hml hown hts hC hW hS hc7 hl.1 (Nat.le_of_ble_eq_true rfl) ⟨Nat.le_of_ble_eq_true rfl, Nat.le_of_ble_eq_true rfl⟩ ⟨(Nat.le_of_ble_eq_true rfl), (Nat.le_of_ble_eq_true rfl)⟩ q1073 dX11_at_2_11 (fun H locs hW hS => ?_)
  refine lv_astore_n (pc := 14) (lv' := [(3, .ref (τ.2)), (0, .ref o_), (1, .int a0), (2, .int a1)]) hx hb dX11_at_2_14 rfl hl (by decide) rfl (fun ls hl => ?_)
  refine lv_iconst (pc := 15) (v := 0) hx hb dX11_at_2_15 (by decide) ?_
  refine lv_istore (pc := 16) (lv' := [(4, .int (0 : Int32)), (3, .ref (τ.2)), (0, .ref o_), (1, .int a0), (2, .int a1)]) hx hb dX11_at_2_16 hl (by decide) rfl (fun ls hl => ?_)
  refine lv_iconst (pc := 18) (v := 0) hx hb dX11_at_2_18 (by decide) ?_
  refine lv_istore (pc := 19) (lv' := [(5, .int (0 : Int32)), (4, .int (0 : Int32)), (3, .ref (τ.2)), (0, .ref o_), (1, .int a0), (2, .int a1)]) hx hb dX11_at_2_19 hl (by decide) rfl (fun ls hl => ?_)
  obtain ⟨w9, hL10, hq11⟩ := wt_bd_o hd
  have hX12 : ∀ w9_ : HP, (Sum.inl w9_ : (HP) ⊕ _) = w9 → ∀ (H : Heap) (locs : List Loc) (ls : Array Slot), Hw G A w9_ H → va_S A s_.heap H locs → lv_has ls 6 [(3, .ref (τ.2))] → W p_ l e_ (headSpec (ws_ yX11_at_2 cX11_at_2 6 (some (.object "WoolThreads$Scene"))) ({ frames := 4, cells := 3, slots := 113, locals := 86 })).room s_ m_ ([.ref o_, .int a0, .int a1] : List Value).toArray below_ meth_ c_ H locs 3 113 (MQ below_ (hQr G out_.1 out_.2 A) ([.ref o_, .int a0, .int a1] : List Value).toArray s_ 3 113 A) (F0 m_ 140 ls []) := by
    intro w9_ hw_
    have hd := wt_rs_l hw_ hq11
    clear hL10 hq11
    intro H locs ls hW hS hl
    refine lv_aload_n (pc := 140) hx hb dX11_at_2_140 rfl (lv_at hl 0 rfl) ?_
    exact hr_aret hx hb hr (Or.inl ⟨_, rfl⟩) hlocks (wt_p1 hd) (wt_p2 hd) hW hS dX11_at_2_141 (Nat.le_of_ble_eq_true rfl) (Nat.le_of_ble_eq_true rfl)
  have hI17 : ∀ (k16 : Nat) (v8 : Int32 × Int32 × HP), wt_wh (bX11_at_2_1 τ o_ a0 a1) k16 v8 = some w9 → ∀ (H : Heap) (locs : List Loc) (ls : Array Slot), Hw G A v8.2.2 H → va_S A s_.heap H locs → lv_has ls 6 [(0, .ref o_), (1, .int a0), (2, .int a1), (3, .ref (τ.2)), (4, .int v8.1), (5, .int v8.2.1)] → W p_ l e_ (headSpec (ws_ yX11_at_2 cX11_at_2 6 (some (.object "WoolThreads$Scene"))) ({ frames := 4, cells := 3, slots := 113, locals := 86 })).room s_ m_ ([.ref o_, .int a0, .int a1] : List Value).toArray below_ meth_ c_ H locs 3 113 (MQ below_ (hQr G out_.1 out_.2 A) ([.ref o_, .int a0, .int a1] : List Value).toArray s_ 3 113 A) (F0 m_ 21 ls []) := by
    intro k16
    induction k16 with
    | zero => intro v8 hd; exact absurd hd wt_wh_z
    | succ k16 ih14 =>
      intro v8 hd
      intro H locs ls hW hS hl
      obtain ⟨r15, hd, hk13⟩ := wt_wh_o hd
      unfold bX11_at_2_1 at hd
      refine lv_iload (pc := 21) hx hb dX11_at_2_21 (lv_at hl 5 rfl) ?_
      refine lv_iload_n (pc := 23) hx hb dX11_at_2_23 rfl (lv_at hl 1 rfl) ?_
      refine lv_icmp_gt (pc := 24) (tgt := 140) hx hb dX11_at_2_24 (by decide) (fun c18 => ?_) (fun c18 => ?_)
      · have hd := wt_it hd c18
        exact hX12 v8.2.2 (wt_exit hd hk13) _ _ _ hW hS (lv_sub hl [3] rfl)
      · have hd := wt_if hd c18
        refine lv_iload (pc := 27) hx hb dX11_at_2_27 (lv_at hl 5 rfl) ?_
        obtain ⟨w19, hj20, hq21⟩ := wt_bd_o hd
        have hX22 : ∀ w19_ : HP, w19_ = w19 → ∀ (H : Heap) (locs : List Loc) (ls : Array Slot), Hw G A w19_ H → va_S A s_.heap H locs → lv_has ls 6 [(0, .ref o_), (1, .int a0), (2, .int a1), (3, .ref (τ.2)), (4, .int v8.1), (5, .int v8.2.1)] → W p_ l e_ (headSpec (ws_ yX11_at_2 cX11_at_2 6 (some (.object "WoolThreads$Scene"))) ({ frames := 4, cells := 3, slots := 113, locals := 86 })).room s_ m_ ([.ref o_, .int a0, .int a1] : List Value).toArray below_ meth_ c_ H locs 3 113 (MQ below_ (hQr G out_.1 out_.2 A) ([.ref o_, .int a0, .int a1] : List Value).toArray s_ 3 113 A) (F0 m_ 36 ls []) := by
          intro w19_ hw_
          have hd := hq21
          subst hw_
          clear hj20 hq21
          intro H locs ls hW hS hl
          obtain ⟨w28, hL29, hq30⟩ := wt_bd_o hd
          have hX31 : ∀ w28_ : Int32 × HP, (Sum.inl w28_ : (Int32 × HP) ⊕ _) = w28 → ∀ (H : Heap) (locs : List Loc) (ls : Array Slot), Hw G A w28_.2 H → va_S A s_.heap H locs → lv_has ls 6 [(0, .ref o_), (1, .int a0), (2, .int a1), (3, .ref (τ.2)), (4, .int w28_.1), (5, .int v8.2.1)] → W p_ l e_ (headSpec (ws_ yX11_at_2 cX11_at_2 6 (some (.object "WoolThreads$Scene"))) ({ frames := 4, cells := 3, slots := 113, locals := 86 })).room s_ m_ ([.ref o_, .int a0, .int a1] : List Value).toArray below_ meth_ c_ H locs 3 113 (MQ below_ (hQr G out_.1 out_.2 A) ([.ref o_, .int a0, .int a1] : List Value).toArray s_ 3 113 A) (F0 m_ 107 ls []) := by
            intro w28_ hw_
            have hd := wt_rs_l hw_ hq30
            clear hL29 hq30
            intro H locs ls hW hS hl
            refine lv_aload_n (pc := 107) hx hb dX11_at_2_107 rfl (lv_at hl 0 rfl) ?_
            obtain ⟨f73, h74, hd⟩ := wt_bd_o hd
            refine hr_get (pc := 108) hx hb hts hown hK hW (hgR_o h74) hf_8_2 (fun _ h => h) q1033 dX11_at_2_108 ?_
            rcases wt_oc f73 with c75 | ⟨ad76, c75⟩
            · have hd := wt_on hd c75
              refine lv_ifnullR0 (pc := 111) (tgt := 134) hx hb c75 dX11_at_2_111 (by decide) ?_
              obtain ⟨n77, en77, hd⟩ := wt_lt_o hd
              refine lv_iinc (pc := 134) (k := 5) (v := n77) (lv' := [(5, .int n77), (0, .ref o_), (1, .int a0), (2, .int a1), (3, .ref (τ.2)), (4, .int w28_.1)]) hx hb dX11_at_2_134 hl rfl en77.symm (by decide) rfl (fun ls hl => ?_)
              refine lv_goto (pc := 137) (tgt := 21) hx hb dX11_at_2_137 (by decide) ?_
              exact ih14 _ (wt_again hd hk13) _ _ _ hW hS (lv_sub hl [1, 2, 3, 4, 5, 0] rfl)
            · have hd := wt_os hd c75
              refine lv_ifnullR1 (pc := 111) (tgt := 134) hx hb c75 dX11_at_2_111 (by decide) ?_
              refine lv_aload_n (pc := 114) hx hb dX11_at_2_114 rfl (lv_at hl 0 rfl) ?_
              obtain ⟨ad78, h79, hd⟩ := wt_bd_o hd
              refine hr_get (pc := 115) hx hb hts hown hK hW (hgA_o h79) hf_8_2 (fun _ h => h) q1033 dX11_at_2_115 ?_
              obtain ⟨f80, h81, hd⟩ := wt_bd_o hd
              refine hr_get (pc := 118) hx hb hts hown hK hW (hgI_o h81) hf_5_6_7_1 (fun _ h => h) q933 dX11_at_2_118 ?_
              refine lv_iload (pc := 121) hx hb dX11_at_2_121 (lv_at hl 5 rfl) ?_
              refine lv_icmp_ne (pc := 123) (tgt := 134) hx hb dX11_at_2_123 (by decide) (fun c82 => ?_) (fun c82 => ?_)
              · have hd := wt_if hd c82
                obtain ⟨n83, en83, hd⟩ := wt_lt_o hd
                refine lv_iinc (pc := 134) (k := 5) (v := n83) (lv' := [(5, .int n83), (0, .ref o_), (1, .int a0), (2, .int a1), (3, .ref (τ.2)), (4, .int w28_.1)]) hx hb dX11_at_2_134 hl rfl en83.symm (by decide) rfl (fun ls hl => ?_)
                refine lv_goto (pc := 137) (tgt := 21) hx hb dX11_at_2_137 (by decide) ?_
                exact ih14 _ (wt_again hd hk13) _ _ _ hW hS (lv_sub hl [1, 2, 3, 4, 5, 0] rfl)
              · have hd := wt_it hd c82
                refine lv_aload_n (pc := 126) hx hb dX11_at_2_126 rfl (lv_at hl 0 rfl) ?_
                obtain ⟨ad84, h85, hd⟩ := wt_bd_o hd
                refine hr_get (pc := 127) hx hb hts hown hK hW (hgA_o h85) hf_8_2 (fun _ h => h) q1033 dX11_at_2_127 ?_
                refine lv_aload_n (pc := 130) hx hb dX11_at_2_130 rfl (lv_at hl 3 rfl) ?_
                obtain ⟨w88, h89, hd⟩ := wt_bd_o hd
                refine kEv_does (pc := 131) hx hb hml hown hts hC hW hS h89 hl.1 (Nat.le_of_ble_eq_true rfl) ⟨Nat.le_of_ble_eq_true rfl, Nat.le_of_ble_eq_true rfl⟩ ⟨Nat.le_of_ble_eq_true rfl, Nat.le_of_ble_eq_true rfl⟩ q1112 dX11_at_2_131 (fun H locs hW hS => ?_)
                obtain ⟨n90, en90, hd⟩ := wt_lt_o hd
                refine lv_iinc (pc := 134) (k := 5) (v := n90) (lv' := [(5, .int n90), (0, .ref o_), (1, .int a0), (2, .int a1), (3, .ref (τ.2)), (4, .int w28_.1)]) hx hb dX11_at_2_134 hl rfl en90.symm (by decide) rfl (fun ls hl => ?_)
                refine lv_goto (pc := 137) (tgt := 21) hx hb dX11_at_2_137 (by decide) ?_
                exact ih14 _ (wt_again hd hk13) _ _ _ hW hS (lv_sub hl [1, 2, 3, 4, 5, 0] rfl)
          have hI36 : ∀ (k35 : Nat) (v27 : Int32 × HP), wt_wh (bX11_at_2_2 τ o_ a1 v8) k35 v27 = some w28 → ∀ (H : Heap) (locs : List Loc) (ls : Array Slot), Hw G A v27.2 H → va_S A s_.heap H locs → lv_has ls 6 [(0, .ref o_), (1, .int a0), (2, .int a1), (3, .ref (τ.2)), (4, .int v27.1), (5, .int v8.2.1)] → W p_ l e_ (headSpec (ws_ yX11_at_2 cX11_at_2 6 (some (.object "WoolThreads$Scene"))) ({ frames := 4, cells := 3, slots := 113, locals := 86 })).room s_ m_ ([.ref o_, .int a0, .int a1] : List Value).toArray below_ meth_ c_ H locs 3 113 (MQ below_ (hQr G out_.1 out_.2 A) ([.ref o_, .int a0, .int a1] : List Value).toArray s_ 3 113 A) (F0 m_ 36 ls []) := by
            intro k35
            induction k35 with
            | zero => intro v27 hd; exact absurd hd wt_wh_z
            | succ k35 ih33 =>
              intro v27 hd
              intro H locs ls hW hS hl
              obtain ⟨r34, hd, hk32⟩ := wt_wh_o hd
              unfold bX11_at_2_2 at hd
              refine lv_iload (pc := 36) hx hb dX11_at_2_36 (lv_at hl 4 rfl) ?_
              refine lv_aload_n (pc := 38) hx hb dX11_at_2_38 rfl (lv_at hl 0 rfl) ?_
              obtain ⟨ad37, h38, hd⟩ := wt_bd_o hd
              refine hr_get (pc := 39) hx hb hts hown hK hW (hgA_o h38) hf_8_0 (fun _ h => h) q1029 dX11_at_2_39 ?_
              obtain ⟨h39, hd⟩ := wt_ck_o hd
              obtain ⟨w40, hc41, hd⟩ := wt_bd_o hd
              refine kJ2_size (pc := 42) hx hb hml hown hts hC hW hS h39 hc41 hl.1 (Nat.le_of_ble_eq_true rfl) ⟨Nat.le_of_ble_eq_true rfl, Nat.le_of_ble_eq_true rfl⟩ ⟨Nat.le_of_ble_eq_true rfl, Nat.le_of_ble_eq_true rfl⟩ q1095 dX11_at_2_42 (fun H locs hW hS => ?_)
              refine lv_icmp_ge (pc := 45) (tgt := 107) hx hb dX11_at_2_45 (by decide) (fun c42 => ?_) (fun c42 => ?_)
              · have hd := wt_it hd c42
                exact hX31 (v27.1, v27.2) (wt_exit hd hk32) _ _ _ hW hS hl
              · have hd := wt_if hd c42
                refine lv_aload_n (pc := 48) hx hb dX11_at_2_48 rfl (lv_at hl 0 rfl) ?_
                obtain ⟨ad43, h44, hd⟩ := wt_bd_o hd
                refine hr_get (pc := 49) hx hb hts hown hK hW (hgA_o h44) hf_8_0 (fun _ h => h) q1029 dX11_at_2_49 ?_
                refine lv_iload (pc := 52) hx hb dX11_at_2_52 (lv_at hl 4 rfl) ?_
                obtain ⟨h45, hd⟩ := wt_ck_o hd
                obtain ⟨w46, hc47, hd⟩ := wt_bd_o hd
                refine kJ2_get (pc := 54) hx hb hml hown hts hC hW hS h45 hc47 hl.1 (Nat.le_of_ble_eq_true rfl) ⟨Nat.le_of_ble_eq_true rfl, Nat.le_of_ble_eq_true rfl⟩ ⟨Nat.le_of_ble_eq_true rfl, Nat.le_of_ble_eq_true rfl⟩ q1096 dX11_at_2_54 (fun H locs hW hS => ?_)
                obtain ⟨c48, h49, hd⟩ := wt_bd_o hd
                obtain ⟨h50, hd⟩ := wt_ck_o hd
                refine hr_castE (pc := 57) hx hb hts hown hC hW h49 h50 q1097 dX11_at_2_57 ?_
                obtain ⟨f51, h52, hd⟩ := wt_bd_o hd
                refine hr_get (pc := 60) hx hb hts hown hK hW (hgI_o h52) hf_5_6_7_1 (fun _ h => h) q933 dX11_at_2_60 ?_
                refine lv_iload (pc := 63) hx hb dX11_at_2_63 (lv_at hl 5 rfl) ?_
                refine lv_icmp_ne (pc := 65) (tgt := 107) hx hb dX11_at_2_65 (by decide) (fun c53 => ?_) (fun c53 => ?_)
                · have hd := wt_if hd c53
                  exact hX31 (v27.1, v27.2) (wt_exit hd hk32) _ _ _ hW hS hl
                · have hd := wt_it hd c53
                  refine lv_iload (pc := 68) hx hb dX11_at_2_68 (lv_at hl 4 rfl) ?_
                  refine lv_iload_n (pc := 70) hx hb dX11_at_2_70 rfl (lv_at hl 2 rfl) ?_
                  refine lv_icmp_ne (pc := 71) (tgt := 76) hx hb dX11_at_2_71 (by decide) (fun c54 => ?_) (fun c54 => ?_)
                  · have hd := wt_if hd c54
                    refine lv_aload_n (pc := 76) hx hb dX11_at_2_76 rfl (lv_at hl 0 rfl) ?_
                    refine lv_iload (pc := 77) hx hb dX11_at_2_77 (lv_at hl 4 rfl) ?_
                    obtain ⟨h55, hd⟩ := wt_ck_o hd
                    obtain ⟨w56, hc57, hd⟩ := wt_bd_o hd
                    refine kX11_isLeftOut (pc := 79) hx hb hml hown hts hC hW hS h55 hc57 hl.1 (Nat.le_of_ble_eq_true rfl) ⟨Nat.le_of_ble_eq_true rfl, Nat.le_of_ble_eq_true rfl⟩ ⟨Nat.le_of_ble_eq_true rfl, Nat.le_of_ble_eq_true rfl⟩ q1098 dX11_at_2_79 (fun H locs hW hS => ?_)
                    refine lv_if_ne (pc := 82) (tgt := 101) hx hb dX11_at_2_82 (by decide) (fun c58 => ?_) (fun c58 => ?_)
                    · have hd := wt_if hd c58
                      obtain ⟨n59, en59, hd⟩ := wt_lt_o hd
                      refine lv_iinc (pc := 101) (k := 4) (v := n59) (lv' := [(4, .int n59), (0, .ref o_), (1, .int a0), (2, .int a1), (3, .ref (τ.2)), (5, .int v8.2.1)]) hx hb dX11_at_2_101 hl rfl en59.symm (by decide) rfl (fun ls hl => ?_)
                      refine lv_goto (pc := 104) (tgt := 36) hx hb dX11_at_2_104 (by decide) ?_
                      exact ih33 _ (wt_again hd hk32) _ _ _ hW hS (lv_sub hl [1, 2, 3, 4, 0, 5] rfl)
                    · have hd := wt_it hd c58
                      refine lv_aload_n (pc := 85) hx hb dX11_at_2_85 rfl (lv_at hl 0 rfl) ?_
                      obtain ⟨ad60, h61, hd⟩ := wt_bd_o hd
                      refine hr_get (pc := 86) hx hb hts hown hK hW (hgA_o h61) hf_8_0 (fun _ h => h) q1029 dX11_at_2_86 ?_
                      refine lv_iload (pc := 89) hx hb dX11_at_2_89 (lv_at hl 4 rfl) ?_
                      obtain ⟨h62, hd⟩ := wt_ck_o hd
                      obtain ⟨w63, hc64, hd⟩ := wt_bd_o hd
                      refine kJ2_get (pc := 91) hx hb hml hown hts hC hW hS h62 hc64 hl.1 (Nat.le_of_ble_eq_true rfl) ⟨Nat.le_of_ble_eq_true rfl, Nat.le_of_ble_eq_true rfl⟩ ⟨Nat.le_of_ble_eq_true rfl, Nat.le_of_ble_eq_true rfl⟩ q1096 dX11_at_2_91 (fun H locs hW hS => ?_)
                      obtain ⟨c65, h66, hd⟩ := wt_bd_o hd
                      obtain ⟨h67, hd⟩ := wt_ck_o hd
                      refine hr_castE (pc := 94) hx hb hts hown hC hW h66 h67 q1097 dX11_at_2_94 ?_
                      refine lv_aload_n (pc := 97) hx hb dX11_at_2_97 rfl (lv_at hl 3 rfl) ?_
                      obtain ⟨w70, h71, hd⟩ := wt_bd_o hd
                      refine kEv_does (pc := 98) hx hb hml hown hts hC hW hS h71 hl.1 (Nat.le_of_ble_eq_true rfl) ⟨Nat.le_of_ble_eq_true rfl, Nat.le_of_ble_eq_true rfl⟩ ⟨Nat.le_of_ble_eq_true rfl, Nat.le_of_ble_eq_true rfl⟩ q1112 dX11_at_2_98 (fun H locs hW hS => ?_)
                      obtain ⟨n72, en72, hd⟩ := wt_lt_o hd
                      refine lv_iinc (pc := 101) (k := 4) (v := n72) (lv' := [(4, .int n72), (0, .ref o_), (1, .int a0), (2, .int a1), (3, .ref (τ.2)), (5, .int v8.2.1)]) hx hb dX11_at_2_101 hl rfl en72.symm (by decide) rfl (fun ls hl => ?_)
                      refine lv_goto (pc := 104) (tgt := 36) hx hb dX11_at_2_104 (by decide) ?_
                      exact ih33 _ (wt_again hd hk32) _ _ _ hW hS (lv_sub hl [1, 2, 3, 4, 0, 5] rfl)
                  · have hd := wt_it hd c54
                    refine lv_aload_n (pc := 74) hx hb dX11_at_2_74 rfl (lv_at hl 3 rfl) ?_
                    have hd := wt_rs_r (wt_exit hd hk32) hq30
                    have hd := wt_rs_r (wt_exit hd hk13) hq11
                    exact hr_aret hx hb hr (Or.inl ⟨_, rfl⟩) hlocks (wt_p1 hd) (wt_p2 hd) hW hS dX11_at_2_75 (Nat.le_of_ble_eq_true rfl) (Nat.le_of_ble_eq_true rfl)
          obtain ⟨k35, hL29⟩ := wt_whC_o hL29
          exact hI36 k35 _ hL29 _ _ _ hW hS hl
        have hd := hj20
        refine lv_if_le (pc := 29) (tgt := 36) hx hb dX11_at_2_29 (by decide) (fun c23 => ?_) (fun c23 => ?_)
        · have hd := wt_it hd c23
          exact hX22 v8.2.2 (Option.some.inj hd) _ _ _ hW hS hl
        · have hd := wt_if hd c23
          refine lv_aload_n (pc := 32) hx hb dX11_at_2_32 rfl (lv_at hl 3 rfl) ?_
          obtain ⟨h24, hd⟩ := wt_ck_o hd
          obtain ⟨w25, hc26, hd⟩ := wt_bd_o hd
          refine kX12_hour (pc := 33) hx hb hml hown hts hC hW hS h24 hc26 hl.1 (Nat.le_of_ble_eq_true rfl) ⟨Nat.le_of_ble_eq_true rfl, Nat.le_of_ble_eq_true rfl⟩ ⟨Nat.le_of_ble_eq_true rfl, Nat.le_of_ble_eq_true rfl⟩ q1091 dX11_at_2_33 (fun H locs hW hS => ?_)
          exact hX22 w25 (Option.some.inj hd) _ _ _ hW hS hl
  obtain ⟨k16, hL10⟩ := wt_whC_o hL10
  exact hI17 k16 _ hL10 _ _ _ hW hS (lv_sub hl [3, 4, 5, 2, 1, 0] rfl)
theorem kX11_at_2 {p : Program} {l : Launch} {e : Env} {R : Room} {s : State} {m : MethodId} {args : Array Value} {below : List Frame} {meth : Method} {c : Code} {H : Heap} {locs : List Loc} {cells slots : Nat} {Q : State → Prop} {cc : ByteArray} {pc : Nat} {ls : Array Slot} {rest : List Value} {nL : Nat} {own : String} {index : Nat} {G : HG} {A : Nat → Prop} {τ : HP} {o_ : Nat} {a0 : Int32} {a1 : Int32} {out_ : Nat × HP} (hx : p.tables.exec = Jvm.exec) (hb : c.code = cc) (hml : c.maxLocals = nL) (hown : s.vm.findClass own = some m.cls) (hts : ∀ w ∈ lw_all, w.before args s = true) (hC : Hcx G A s) (hW : Hw G A τ H) (hS : va_S A s.heap H locs) (hrc : hcl τ o_ = some 8) (hd : eX11_at_2 τ o_ a0 a1 = some out_) (hsz : ls.size = nL) (hrm : (rest.map fun v => v.category).sum ≤ 8) (hR : 5 ≤ R.frames ∧ 111 ≤ R.locals) (hcs : (cells + 3) ≤ R.cells ∧ (slots + 113) ≤ R.slots) (hlk : Cond.methodLink own index yX11_at_2 ∈ lw_all) (hdg : decode cc pc = .ok (.invokevirtual index, 3)) (kk : ∀ (H1 : Heap) (locs1 : List Loc), Hw G A out_.2 H1 → va_S A s.heap H1 locs1 → W p l e R s m args below meth c H1 locs1 (cells + 3) (slots + 113) Q (F0 m (pc + 3) ls (.ref out_.1 :: rest))) : W p l e R s m args below meth c H locs cells slots Q (F0 m pc ls (.int a1 :: .int a0 :: .ref o_ :: rest)) := by
  refine va_callr (va_runV (As := [.int a0, .int a1]) (rest := rest) ⟨hx, hb, hml, hown, hts⟩ (wX11_at_2 l hd) (cwV 2 hts (lw_V hlk q1068 q1069 q97 q1070) rfl rfl rfl (by decide +kernel) hR) (hr_preV hC hW hS hrc rfl rfl) rfl rfl hsz rfl (lv_room hrm) hdg hcs) hS (fun _ _ h => h) (fun _ h => h) (fun u ra t H1 locs1 ht hvm hp hB hz hk hS1 => ?_)
  have hp : ra = out_.1 := hB.1
  subst hp
  have hW1 : Hw G A out_.2 t.heap := hB.2
  rw [ht] at hW1
  exact kk H1 locs1 hW1 hS1
noncomputable def eX11_at (τ : HP) (o_ : Nat) (a0 : Int32) : Option (Nat × HP) :=
  wt_ck (hcl τ o_ = some 8) <| wt_bd (eX11_at_2 τ o_ a0 (-1 : Int32)) fun w2 => some (w2.1, w2.2)
set_option maxHeartbeats 4000000 in
theorem wX11_at (l : Launch) {G : HG} {A : Nat → Prop} {τ : HP} {o_ : Nat} {a0 : Int32} {out_ : Nat × HP} (hd : eX11_at τ o_ a0 = some out_) : Met l yX11_at (ws_ yX11_at cX11_at 2 (some (.object "WoolThreads$Scene"))) ({ frames := 5, cells := 3, slots := 113, locals := 111 }) (hPc G A τ [.ref o_, .int a0]) (hQr G out_.1 out_.2 A) 3 113 A := by
  refine Met.ofW (cc := cX11_at) (maxL := 2) (ret := (some (.object "WoolThreads$Scene"))) (by decide) rfl ?_
  intro p_ e_ s_ m_ args_ below_ meth_ c_ s₁_ B hml hv
  obtain ⟨rfl, hW, hC⟩ := hv
  have hx := B.exec
  have hb := B.bytes
  have hr := B.returns
  have hts := atoms_spec (ws := (ws_ yX11_at cX11_at 2 (some (.object "WoolThreads$Scene")))) B.pre
  have hts : ∀ w ∈ lw_all, w.before _ s_ = true := fun w h => hts w (List.mem_cons_of_mem _ h)
  have hown : s_.vm.findClass RX11 = some m_.cls := findClass_of_methodNamed B.named
  have hlocks := B.notSynchronized
  have hK := hC.1
  have hT := hC.2.1
  have hL := hC.2.2.1
  have hZ := hC.2.2.2.2.1
  have hA := hC.2.2.2.2.2
  have hS : va_S A s_.heap s_.heap [] := va_S.rf
  have hl := lv_entry ([.ref o_, .int a0]) (n := 2) (Nat.le_of_ble_eq_true rfl)
  rw [lg_entry_eq]
  generalize (lg_sl ([.ref o_, .int a0]) ++ List.replicate (2 - (lg_sl ([.ref o_, .int a0])).length) Slot.unset).toArray = ls at hl ⊢
  have hl : lv_has ls 2 [(0, .ref o_), (1, .int a0)] := hl
  unfold eX11_at at hd
  refine lv_aload_n (pc := 0) hx hb dX11_at_0 rfl (lv_at hl 0 rfl) ?_
  refine lv_iload_n (pc := 1) hx hb dX11_at_1 rfl (lv_at hl 1 rfl) ?_
  refine lv_iconst (pc := 2) (v := -1) hx hb dX11_at_2 (by decide) ?_
  obtain ⟨h1, hd⟩ := wt_ck_o hd
  obtain ⟨w2, hc3, hd⟩ := wt_bd_o hd
  refine kX11_at_2 (pc := 3) hx hb hml hown hts hC hW hS h1 hc3 hl.1 (Nat.le_of_ble_eq_true rfl) ⟨Nat.le_of_ble_eq_true rfl, Nat.le_of_ble_eq_true rfl⟩ ⟨(Nat.le_of_ble_eq_true rfl), (Nat.le_of_ble_eq_true rfl)⟩ q1067 dX11_at_3 (fun H locs hW hS => ?_)
  exact hr_aret hx hb hr (Or.inl ⟨_, rfl⟩) hlocks (wt_p1 hd) (wt_p2 hd) hW hS dX11_at_6 (Nat.le_of_ble_eq_true rfl) (Nat.le_of_ble_eq_true rfl)
theorem kX11_at {p : Program} {l : Launch} {e : Env} {R : Room} {s : State} {m : MethodId} {args : Array Value} {below : List Frame} {meth : Method} {c : Code} {H : Heap} {locs : List Loc} {cells slots : Nat} {Q : State → Prop} {cc : ByteArray} {pc : Nat} {ls : Array Slot} {rest : List Value} {nL : Nat} {own : String} {index : Nat} {G : HG} {A : Nat → Prop} {τ : HP} {o_ : Nat} {a0 : Int32} {out_ : Nat × HP} (hx : p.tables.exec = Jvm.exec) (hb : c.code = cc) (hml : c.maxLocals = nL) (hown : s.vm.findClass own = some m.cls) (hts : ∀ w ∈ lw_all, w.before args s = true) (hC : Hcx G A s) (hW : Hw G A τ H) (hS : va_S A s.heap H locs) (hrc : hcl τ o_ = some 8) (hd : eX11_at τ o_ a0 = some out_) (hsz : ls.size = nL) (hrm : (rest.map fun v => v.category).sum ≤ 8) (hR : 6 ≤ R.frames ∧ 132 ≤ R.locals) (hcs : (cells + 3) ≤ R.cells ∧ (slots + 113) ≤ R.slots) (hlk : Cond.methodLink own index yX11_at ∈ lw_all) (hdg : decode cc pc = .ok (.invokevirtual index, 3)) (kk : ∀ (H1 : Heap) (locs1 : List Loc), Hw G A out_.2 H1 → va_S A s.heap H1 locs1 → W p l e R s m args below meth c H1 locs1 (cells + 3) (slots + 113) Q (F0 m (pc + 3) ls (.ref out_.1 :: rest))) : W p l e R s m args below meth c H locs cells slots Q (F0 m pc ls (.int a0 :: .ref o_ :: rest)) := by
  refine va_callr (va_runV (As := [.int a0]) (rest := rest) ⟨hx, hb, hml, hown, hts⟩ (wX11_at l hd) (cwV 1 hts (lw_V hlk q1064 q1065 q97 q1066) rfl rfl rfl (by decide +kernel) hR) (hr_preV hC hW hS hrc rfl rfl) rfl rfl hsz rfl (lv_room hrm) hdg hcs) hS (fun _ _ h => h) (fun _ h => h) (fun u ra t H1 locs1 ht hvm hp hB hz hk hS1 => ?_)
  have hp : ra = out_.1 := hB.1
  subst hp
  have hW1 : Hw G A out_.2 t.heap := hB.2
  rw [ht] at hW1
  exact kk H1 locs1 hW1 hS1
noncomputable def eX11_pile (τ : HP) (o_ : Nat) (a0 : Nat) : Option (Int32 × HP) :=
  wt_bd (hgI τ a0 [10] 1) fun f1 => wt_ck (hcl τ o_ = some 8) <| wt_bd (eX11_at τ o_ f1) fun w4 => wt_bd (hgI w4.2 a0 [10] 0) fun f6 => wt_bd (hgI w4.2 a0 [10] 2) fun f8 => wt_ck (hcl w4.2 w4.1 = some 9) <| wt_bd (eX12_pile w4.2 w4.1 f6 f8) fun w11 => some (w11, w4.2)
set_option maxHeartbeats 4000000 in
theorem wX11_pile (l : Launch) {G : HG} {A : Nat → Prop} {τ : HP} {o_ : Nat} {a0 : Nat} {out_ : Int32 × HP} (hd : eX11_pile τ o_ a0 = some out_) : Met l yX11_pile (ws_ yX11_pile cX11_pile 2 (some .int)) ({ frames := 6, cells := 3, slots := 113, locals := 132 }) (hPc G A τ [.ref o_, .ref a0]) (hQi G out_.1 out_.2 A) 3 113 A := by
  refine Met.ofW (cc := cX11_pile) (maxL := 2) (ret := (some .int)) (by decide) rfl ?_
  intro p_ e_ s_ m_ args_ below_ meth_ c_ s₁_ B hml hv
  obtain ⟨rfl, hW, hC⟩ := hv
  have hx := B.exec
  have hb := B.bytes
  have hr := B.returns
  have hts := atoms_spec (ws := (ws_ yX11_pile cX11_pile 2 (some .int))) B.pre
  have hts : ∀ w ∈ lw_all, w.before _ s_ = true := fun w h => hts w (List.mem_cons_of_mem _ h)
  have hown : s_.vm.findClass RX11 = some m_.cls := findClass_of_methodNamed B.named
  have hlocks := B.notSynchronized
  have hK := hC.1
  have hT := hC.2.1
  have hL := hC.2.2.1
  have hZ := hC.2.2.2.2.1
  have hA := hC.2.2.2.2.2
  have hS : va_S A s_.heap s_.heap [] := va_S.rf
  have hl := lv_entry ([.ref o_, .ref a0]) (n := 2) (Nat.le_of_ble_eq_true rfl)
  rw [lg_entry_eq]
  generalize (lg_sl ([.ref o_, .ref a0]) ++ List.replicate (2 - (lg_sl ([.ref o_, .ref a0])).length) Slot.unset).toArray = ls at hl ⊢
  have hl : lv_has ls 2 [(0, .ref o_), (1, .ref a0)] := hl
  unfold eX11_pile at hd
  refine lv_aload_n (pc := 0) hx hb dX11_pile_0 rfl (lv_at hl 0 rfl) ?_
  refine lv_aload_n (pc := 1) hx hb dX11_pile_1 rfl (lv_at hl 1 rfl) ?_
  obtain ⟨f1, h2, hd⟩ := wt_bd_o hd
  refine hr_getN (pc := 2) hx hb hts hown hK hT hW (hgI_o h2) hf_10_1 (fun _ h => h) q1172 dX11_pile_2 ?_
  obtain ⟨h3, hd⟩ := wt_ck_o hd
  obtain ⟨w4, hc5, hd⟩ := wt_bd_o hd
  refine kX11_at (pc := 5) hx hb hml hown hts hC hW hS h3 hc5 hl.1 (Nat.le_of_ble_eq_true rfl) ⟨Nat.le_of_ble_eq_true rfl, Nat.le_of_ble_eq_true rfl⟩ ⟨(Nat.le_of_ble_eq_true rfl), (Nat.le_of_ble_eq_true rfl)⟩ q1266 dX11_pile_5 (fun H locs hW hS => ?_)
  refine lv_aload_n (pc := 8) hx hb dX11_pile_8 rfl (lv_at hl 1 rfl) ?_
  obtain ⟨f6, h7, hd⟩ := wt_bd_o hd
  refine hr_getN (pc := 9) hx hb hts hown hK hT hW (hgI_o h7) hf_10_0 (fun _ h => h) q1169 dX11_pile_9 ?_
  refine lv_aload_n (pc := 12) hx hb dX11_pile_12 rfl (lv_at hl 1 rfl) ?_
  obtain ⟨f8, h9, hd⟩ := wt_bd_o hd
  refine hr_getN (pc := 13) hx hb hts hown hK hT hW (hgI_o h9) hf_10_2 (fun _ h => h) q1175 dX11_pile_13 ?_
  obtain ⟨h10, hd⟩ := wt_ck_o hd
  obtain ⟨w11, hc12, hd⟩ := wt_bd_o hd
  refine kX12_pile (pc := 16) hx hb hml hown hts hC hW hS h10 hc12 hl.1 (Nat.le_of_ble_eq_true rfl) ⟨Nat.le_of_ble_eq_true rfl, Nat.le_of_ble_eq_true rfl⟩ ⟨Nat.le_of_ble_eq_true rfl, Nat.le_of_ble_eq_true rfl⟩ q1267 dX11_pile_16 (fun H locs hW hS => ?_)
  exact hr_iret hx hb hr rfl hlocks (wt_p1 hd) (wt_p2 hd) hW hS dX11_pile_19 (Nat.le_of_ble_eq_true rfl) (Nat.le_of_ble_eq_true rfl)
theorem kX11_pile {p : Program} {l : Launch} {e : Env} {R : Room} {s : State} {m : MethodId} {args : Array Value} {below : List Frame} {meth : Method} {c : Code} {H : Heap} {locs : List Loc} {cells slots : Nat} {Q : State → Prop} {cc : ByteArray} {pc : Nat} {ls : Array Slot} {rest : List Value} {nL : Nat} {own : String} {index : Nat} {G : HG} {A : Nat → Prop} {τ : HP} {o_ : Nat} {a0 : Nat} {out_ : Int32 × HP} (hx : p.tables.exec = Jvm.exec) (hb : c.code = cc) (hml : c.maxLocals = nL) (hown : s.vm.findClass own = some m.cls) (hts : ∀ w ∈ lw_all, w.before args s = true) (hC : Hcx G A s) (hW : Hw G A τ H) (hS : va_S A s.heap H locs) (hrc : hcl τ o_ = some 8) (hd : eX11_pile τ o_ a0 = some out_) (hsz : ls.size = nL) (hrm : (rest.map fun v => v.category).sum ≤ 8) (hR : 7 ≤ R.frames ∧ 153 ≤ R.locals) (hcs : (cells + 3) ≤ R.cells ∧ (slots + 113) ≤ R.slots) (hlk : Cond.methodLink own index yX11_pile ∈ lw_all) (hdg : decode cc pc = .ok (.invokevirtual index, 3)) (kk : ∀ (H1 : Heap) (locs1 : List Loc), Hw G A out_.2 H1 → va_S A s.heap H1 locs1 → W p l e R s m args below meth c H1 locs1 (cells + 3) (slots + 113) Q (F0 m (pc + 3) ls (.int out_.1 :: rest))) : W p l e R s m args below meth c H locs cells slots Q (F0 m pc ls (.ref a0 :: .ref o_ :: rest)) := by
  refine va_calli (va_runV (As := [.ref a0]) (rest := rest) ⟨hx, hb, hml, hown, hts⟩ (wX11_pile l hd) (cwV 1 hts (lw_V hlk q1263 q1264 q97 q1265) rfl rfl rfl (by decide +kernel) hR) (hr_preV hC hW hS hrc rfl rfl) rfl rfl hsz rfl (lv_room hrm) hdg hcs) hS (fun _ _ h => h) (fun _ h => h) (fun r u t H1 locs1 ht hvm hp hB hz hk hS1 => ?_)
  have hp : r = out_.1 := hp
  subst hp
  have hW1 : Hw G A out_.2 t.heap := hB
  rw [ht] at hW1
  exact kk H1 locs1 hW1 hS1
noncomputable def bX11_scale_1 (o_ : Nat) (a0 : Int32) (v1 : Int32 × Int32 × HP × Nat × Nat) : Option ((Int32 × Int32 × HP × Nat × Nat) ⊕ (Int32 × HP × Nat × Nat)) :=
  wt_bd (hgA v1.2.2.1 o_ [8] 6) fun ad11 => wt_bd (hgA v1.2.2.1 ad11 [0] 1) fun ad13 => wt_bd (hgA v1.2.2.1 ad13 [2] 0) fun ad15 => wt_ck (hcl v1.2.2.1 ad15 = some 13) <| wt_bd (eJ2_size v1.2.2.1 ad15) fun w18 => wt_ck (v1.2.2.2.1 ≤ 30 ∧ v1.2.2.2.2 ≤ 1000) <| if w18 ≤ v1.2.1 then (some (.inr (v1.1, v1.2.2.1, v1.2.2.2.1, v1.2.2.2.2))) else (wt_bd (if a0 = (-1 : Int32) then (some (.inl ())) else (if a0 = v1.2.1 then (some (.inl ())) else (wt_lt (v1.2.1 + (1 : Int32)) fun n28 => some (.inr (.inl (v1.1, n28, v1.2.2.1, v1.2.2.2.1, v1.2.2.2.2)))))) fun w22 => wt_rs w22 (fun w22 => wt_bd (hgA v1.2.2.1 o_ [8] 6) fun ad29 => wt_bd (hgA v1.2.2.1 ad29 [0] 1) fun ad31 => wt_bd (hgA v1.2.2.1 ad31 [2] 0) fun ad33 => wt_ck (hcl v1.2.2.1 ad33 = some 13) <| wt_bd (eJ2_get v1.2.2.1 ad33 v1.2.1) fun w36 => wt_ck (v1.2.2.2.1 ≤ 30 ∧ v1.2.2.2.2 ≤ 1000) <| wt_ck (hcl v1.2.2.1 w36 = some 10) <| wt_ck (hcl v1.2.2.1 o_ = some 8) <| wt_bd (eX11_pile v1.2.2.1 o_ w36) fun w41 => wt_ck ((v1.2.2.2.1 + 3) ≤ 30 ∧ (v1.2.2.2.2 + 113) ≤ 1000) <| wt_lt ((v1.1 + w41.1)) fun n44 => wt_lt (v1.2.1 + (1 : Int32)) fun n45 => some (.inl (n44, n45, w41.2, (v1.2.2.2.1 + 3), (v1.2.2.2.2 + 113)))) (fun z_ => some z_))
noncomputable def eX11_scale (τ : HP) (o_ : Nat) (a0 : Int32) : Option (Int32 × HP) :=
  wt_bd (wt_whC (bX11_scale_1 o_ a0) ((0 : Int32), (0 : Int32), τ, 0, 0)) fun w2 => wt_ck (w2.2.2.1 ≤ 30 ∧ w2.2.2.2 ≤ 1000) <| some (w2.1, w2.2.1)
set_option maxHeartbeats 4000000 in
theorem wX11_scale (l : Launch) {G : HG} {A : Nat → Prop} {τ : HP} {o_ : Nat} {a0 : Int32} {out_ : Int32 × HP} (hd : eX11_scale τ o_ a0 = some out_) : Met l yX11_scale (ws_ yX11_scale cX11_scale 4 (some .int)) ({ frames := 7, cells := 30, slots := 1000, locals := 153 }) (hPc G A τ [.ref o_, .int a0]) (hQi G out_.1 out_.2 A) 30 1000 A := by
  refine Met.ofW (cc := cX11_scale) (maxL := 4) (ret := (some .int)) (by decide) rfl ?_
  intro p_ e_ s_ m_ args_ below_ meth_ c_ s₁_ B hml hv
  obtain ⟨rfl, hW, hC⟩ := hv
  have hx := B.exec
  have hb := B.bytes
  have hr := B.returns
  have hts := atoms_spec (ws := (ws_ yX11_scale cX11_scale 4 (some .int))) B.pre
  have hts : ∀ w ∈ lw_all, w.before _ s_ = true := fun w h => hts w (List.mem_cons_of_mem _ h)
  have hown : s_.vm.findClass RX11 = some m_.cls := findClass_of_methodNamed B.named
  have hlocks := B.notSynchronized
  have hK := hC.1
  have hT := hC.2.1
  have hL := hC.2.2.1
  have hZ := hC.2.2.2.2.1
  have hA := hC.2.2.2.2.2
  have hS : va_S A s_.heap s_.heap [] := va_S.rf
  have hl := lv_entry ([.ref o_, .int a0]) (n := 4) (Nat.le_of_ble_eq_true rfl)
  rw [lg_entry_eq]
  generalize (lg_sl ([.ref o_, .int a0]) ++ List.replicate (4 - (lg_sl ([.ref o_, .int a0])).length) Slot.unset).toArray = ls at hl ⊢
  have hl : lv_has ls 4 [(0, .ref o_), (1, .int a0)] := hl
  unfold eX11_scale at hd
  refine lv_iconst (pc := 0) (v := 0) hx hb dX11_scale_0 (by decide) ?_
  refine lv_istore_n (pc := 1) (lv' := [(2, .int (0 : Int32)), (0, .ref o_), (1, .int a0)]) hx hb dX11_scale_1 rfl hl (by decide) rfl (fun ls hl => ?_)
  refine lv_iconst (pc := 2) (v := 0) hx hb dX11_scale_2 (by decide) ?_
  refine lv_istore_n (pc := 3) (lv' := [(3, .int (0 : Int32)), (2, .int (0 : Int32)), (0, .ref o_), (1, .int a0)]) hx hb dX11_scale_3 rfl hl (by decide) rfl (fun ls hl => ?_)
  obtain ⟨w2, hL3, hq4⟩ := wt_bd_o hd
  have hX5 : ∀ w2_ : Int32 × HP × Nat × Nat, w2_ = w2 → ∀ (H : Heap) (locs : List Loc) (ls : Array Slot), Hw G A w2_.2.1 H → va_S A s_.heap H locs → lv_has ls 4 [(2, .int w2_.1)] → W p_ l e_ (headSpec (ws_ yX11_scale cX11_scale 4 (some .int)) ({ frames := 7, cells := 30, slots := 1000, locals := 153 })).room s_ m_ ([.ref o_, .int a0] : List Value).toArray below_ meth_ c_ H locs w2_.2.2.1 w2_.2.2.2 (MQ below_ (hQi G out_.1 out_.2 A) ([.ref o_, .int a0] : List Value).toArray s_ 30 1000 A) (F0 m_ 61 ls []) := by
    intro w2_ hw_
    have hd := hq4
    subst hw_
    clear hL3 hq4
    intro H locs ls hW hS hl
    refine lv_iload_n (pc := 61) hx hb dX11_scale_61 rfl (lv_at hl 0 rfl) ?_
    obtain ⟨h46, hd⟩ := wt_ck_o hd
    exact hr_iret hx hb hr rfl hlocks (wt_p1 hd) (wt_p2 hd) hW hS dX11_scale_62 (h46.1) (h46.2)
  have hI10 : ∀ (k9 : Nat) (v1 : Int32 × Int32 × HP × Nat × Nat), wt_wh (bX11_scale_1 o_ a0) k9 v1 = some w2 → ∀ (H : Heap) (locs : List Loc) (ls : Array Slot), Hw G A v1.2.2.1 H → va_S A s_.heap H locs → lv_has ls 4 [(0, .ref o_), (1, .int a0), (2, .int v1.1), (3, .int v1.2.1)] → W p_ l e_ (headSpec (ws_ yX11_scale cX11_scale 4 (some .int)) ({ frames := 7, cells := 30, slots := 1000, locals := 153 })).room s_ m_ ([.ref o_, .int a0] : List Value).toArray below_ meth_ c_ H locs v1.2.2.2.1 v1.2.2.2.2 (MQ below_ (hQi G out_.1 out_.2 A) ([.ref o_, .int a0] : List Value).toArray s_ 30 1000 A) (F0 m_ 4 ls []) := by
    intro k9
    induction k9 with
    | zero => intro v1 hd; exact absurd hd wt_wh_z
    | succ k9 ih7 =>
      intro v1 hd
      intro H locs ls hW hS hl
      obtain ⟨r8, hd, hk6⟩ := wt_wh_o hd
      unfold bX11_scale_1 at hd
      refine lv_iload_n (pc := 4) hx hb dX11_scale_4 rfl (lv_at hl 3 rfl) ?_
      refine lv_aload_n (pc := 5) hx hb dX11_scale_5 rfl (lv_at hl 0 rfl) ?_
      obtain ⟨ad11, h12, hd⟩ := wt_bd_o hd
      refine hr_get (pc := 6) hx hb hts hown hK hW (hgA_o h12) hf_8_6 (fun _ h => h) q1041 dX11_scale_6 ?_
      obtain ⟨ad13, h14, hd⟩ := wt_bd_o hd
      refine hr_getN (pc := 9) hx hb hts hown hK hT hW (hgA_o h14) hf_0_1 (fun _ h => h) q537 dX11_scale_9 ?_
      obtain ⟨ad15, h16, hd⟩ := wt_bd_o hd
      refine hr_getN (pc := 12) hx hb hts hown hK hT hW (hgA_o h16) hf_2_0 (fun _ h => h) q514 dX11_scale_12 ?_
      obtain ⟨h17, hd⟩ := wt_ck_o hd
      obtain ⟨w18, hc19, hd⟩ := wt_bd_o hd
      obtain ⟨h20, hd⟩ := wt_ck_o hd
      refine kJ2_size (pc := 15) hx hb hml hown hts hC hW hS h17 hc19 hl.1 (Nat.le_of_ble_eq_true rfl) ⟨Nat.le_of_ble_eq_true rfl, Nat.le_of_ble_eq_true rfl⟩ ⟨h20.1, h20.2⟩ q1095 dX11_scale_15 (fun H locs hW hS => ?_)
      refine lv_icmp_ge (pc := 18) (tgt := 61) hx hb dX11_scale_18 (by decide) (fun c21 => ?_) (fun c21 => ?_)
      · have hd := wt_it hd c21
        exact hX5 (v1.1, v1.2.2.1, v1.2.2.2.1, v1.2.2.2.2) (wt_exit hd hk6) _ _ _ hW hS (lv_sub hl [2] rfl)
      · have hd := wt_if hd c21
        refine lv_iload_n (pc := 21) hx hb dX11_scale_21 rfl (lv_at hl 1 rfl) ?_
        refine lv_iconst (pc := 22) (v := -1) hx hb dX11_scale_22 (by decide) ?_
        obtain ⟨w22, hj23, hq24⟩ := wt_bd_o hd
        have hX25 : ∀ w22_ : Unit, (Sum.inl w22_ : (Unit) ⊕ _) = w22 → ∀ (H : Heap) (locs : List Loc) (ls : Array Slot), Hw G A v1.2.2.1 H → va_S A s_.heap H locs → lv_has ls 4 [(0, .ref o_), (1, .int a0), (2, .int v1.1), (3, .int v1.2.1)] → W p_ l e_ (headSpec (ws_ yX11_scale cX11_scale 4 (some .int)) ({ frames := 7, cells := 30, slots := 1000, locals := 153 })).room s_ m_ ([.ref o_, .int a0] : List Value).toArray below_ meth_ c_ H locs v1.2.2.2.1 v1.2.2.2.2 (MQ below_ (hQi G out_.1 out_.2 A) ([.ref o_, .int a0] : List Value).toArray s_ 30 1000 A) (F0 m_ 31 ls []) := by
          intro w22_ hw_
          have hd := wt_rs_l hw_ hq24
          clear hj23 hq24
          intro H locs ls hW hS hl
          refine lv_iload_n (pc := 31) hx hb dX11_scale_31 rfl (lv_at hl 2 rfl) ?_
          refine lv_aload_n (pc := 32) hx hb dX11_scale_32 rfl (lv_at hl 0 rfl) ?_
          refine lv_aload_n (pc := 33) hx hb dX11_scale_33 rfl (lv_at hl 0 rfl) ?_
          obtain ⟨ad29, h30, hd⟩ := wt_bd_o hd
          refine hr_get (pc := 34) hx hb hts hown hK hW (hgA_o h30) hf_8_6 (fun _ h => h) q1041 dX11_scale_34 ?_
          obtain ⟨ad31, h32, hd⟩ := wt_bd_o hd
          refine hr_getN (pc := 37) hx hb hts hown hK hT hW (hgA_o h32) hf_0_1 (fun _ h => h) q537 dX11_scale_37 ?_
          obtain ⟨ad33, h34, hd⟩ := wt_bd_o hd
          refine hr_getN (pc := 40) hx hb hts hown hK hT hW (hgA_o h34) hf_2_0 (fun _ h => h) q514 dX11_scale_40 ?_
          refine lv_iload_n (pc := 43) hx hb dX11_scale_43 rfl (lv_at hl 3 rfl) ?_
          obtain ⟨h35, hd⟩ := wt_ck_o hd
          obtain ⟨w36, hc37, hd⟩ := wt_bd_o hd
          obtain ⟨h38, hd⟩ := wt_ck_o hd
          refine kJ2_get (pc := 44) hx hb hml hown hts hC hW hS h35 hc37 hl.1 (Nat.le_of_ble_eq_true rfl) ⟨Nat.le_of_ble_eq_true rfl, Nat.le_of_ble_eq_true rfl⟩ ⟨h38.1, h38.2⟩ q1096 dX11_scale_44 (fun H locs hW hS => ?_)
          obtain ⟨h39, hd⟩ := wt_ck_o hd
          refine hr_cast (pc := 47) (ci := 10) hx hb hts hown hK hW h39 rfl rfl q1261 dX11_scale_47 ?_
          obtain ⟨h40, hd⟩ := wt_ck_o hd
          obtain ⟨w41, hc42, hd⟩ := wt_bd_o hd
          obtain ⟨h43, hd⟩ := wt_ck_o hd
          refine kX11_pile (pc := 50) hx hb hml hown hts hC hW hS h40 hc42 hl.1 (Nat.le_of_ble_eq_true rfl) ⟨Nat.le_of_ble_eq_true rfl, Nat.le_of_ble_eq_true rfl⟩ ⟨h43.1, h43.2⟩ q1262 dX11_scale_50 (fun H locs hW hS => ?_)
          refine lv_iadd (pc := 53) hx hb dX11_scale_53 ?_
          obtain ⟨n44, en44, hd⟩ := wt_lt_o hd
          refine lv_tope en44 ?_
          refine lv_istore_n (pc := 54) (lv' := [(2, .int n44), (0, .ref o_), (1, .int a0), (3, .int v1.2.1)]) hx hb dX11_scale_54 rfl hl (by decide) rfl (fun ls hl => ?_)
          obtain ⟨n45, en45, hd⟩ := wt_lt_o hd
          refine lv_iinc (pc := 55) (k := 3) (v := n45) (lv' := [(3, .int n45), (2, .int n44), (0, .ref o_), (1, .int a0)]) hx hb dX11_scale_55 hl rfl en45.symm (by decide) rfl (fun ls hl => ?_)
          refine lv_goto (pc := 58) (tgt := 4) hx hb dX11_scale_58 (by decide) ?_
          exact ih7 _ (wt_again hd hk6) _ _ _ hW hS (lv_sub hl [2, 3, 1, 0] rfl)
        have hd := hj23
        refine lv_icmp_eq (pc := 23) (tgt := 31) hx hb dX11_scale_23 (by decide) (fun c26 => ?_) (fun c26 => ?_)
        · have hd := wt_it hd c26
          exact hX25 () (Option.some.inj hd) _ _ _ hW hS hl
        · have hd := wt_if hd c26
          refine lv_iload_n (pc := 26) hx hb dX11_scale_26 rfl (lv_at hl 1 rfl) ?_
          refine lv_iload_n (pc := 27) hx hb dX11_scale_27 rfl (lv_at hl 3 rfl) ?_
          refine lv_icmp_ne (pc := 28) (tgt := 55) hx hb dX11_scale_28 (by decide) (fun c27 => ?_) (fun c27 => ?_)
          · have hd := wt_if hd c27
            obtain ⟨n28, en28, hd⟩ := wt_lt_o hd
            refine lv_iinc (pc := 55) (k := 3) (v := n28) (lv' := [(3, .int n28), (0, .ref o_), (1, .int a0), (2, .int v1.1)]) hx hb dX11_scale_55 hl rfl en28.symm (by decide) rfl (fun ls hl => ?_)
            refine lv_goto (pc := 58) (tgt := 4) hx hb dX11_scale_58 (by decide) ?_
            have hd := wt_rs_r (Option.some.inj hd) hq24
            exact ih7 _ (wt_again hd hk6) _ _ _ hW hS (lv_sub hl [1, 2, 3, 0] rfl)
          · have hd := wt_it hd c27
            exact hX25 () (Option.some.inj hd) _ _ _ hW hS hl
  obtain ⟨k9, hL3⟩ := wt_whC_o hL3
  exact hI10 k9 _ hL3 _ _ _ hW hS (lv_sub hl [2, 3, 1, 0] rfl)
theorem kX11_scale {p : Program} {l : Launch} {e : Env} {R : Room} {s : State} {m : MethodId} {args : Array Value} {below : List Frame} {meth : Method} {c : Code} {H : Heap} {locs : List Loc} {cells slots : Nat} {Q : State → Prop} {cc : ByteArray} {pc : Nat} {ls : Array Slot} {rest : List Value} {nL : Nat} {own : String} {index : Nat} {G : HG} {A : Nat → Prop} {τ : HP} {o_ : Nat} {a0 : Int32} {out_ : Int32 × HP} (hx : p.tables.exec = Jvm.exec) (hb : c.code = cc) (hml : c.maxLocals = nL) (hown : s.vm.findClass own = some m.cls) (hts : ∀ w ∈ lw_all, w.before args s = true) (hC : Hcx G A s) (hW : Hw G A τ H) (hS : va_S A s.heap H locs) (hrc : hcl τ o_ = some 8) (hd : eX11_scale τ o_ a0 = some out_) (hsz : ls.size = nL) (hrm : (rest.map fun v => v.category).sum ≤ 8) (hR : 8 ≤ R.frames ∧ 176 ≤ R.locals) (hcs : (cells + 30) ≤ R.cells ∧ (slots + 1000) ≤ R.slots) (hlk : Cond.methodLink own index yX11_scale ∈ lw_all) (hdg : decode cc pc = .ok (.invokevirtual index, 3)) (kk : ∀ (H1 : Heap) (locs1 : List Loc), Hw G A out_.2 H1 → va_S A s.heap H1 locs1 → W p l e R s m args below meth c H1 locs1 (cells + 30) (slots + 1000) Q (F0 m (pc + 3) ls (.int out_.1 :: rest))) : W p l e R s m args below meth c H locs cells slots Q (F0 m pc ls (.int a0 :: .ref o_ :: rest)) := by
  refine va_calli (va_runV (As := [.int a0]) (rest := rest) ⟨hx, hb, hml, hown, hts⟩ (wX11_scale l hd) (cwV 1 hts (lw_V hlk q1258 q1259 q97 q1260) rfl rfl rfl (by decide +kernel) hR) (hr_preV hC hW hS hrc rfl rfl) rfl rfl hsz rfl (lv_room hrm) hdg hcs) hS (fun _ _ h => h) (fun _ h => h) (fun r u t H1 locs1 ht hvm hp hB hz hk hS1 => ?_)
  have hp : r = out_.1 := hp
  subst hp
  have hW1 : Hw G A out_.2 t.heap := hB
  rw [ht] at hW1
  exact kk H1 locs1 hW1 hS1
noncomputable def bX11_times_1 (a0 : Nat) (a1 : Nat) (w2 : Int32 × HP) (v7 : Int32 × HP) : Option ((Int32 × HP) ⊕ (HP)) :=
  wt_bd (hgI v7.2 a1 [10] 3) fun f17 => if f17 < v7.1 then (some (.inr v7.2)) else (wt_bd (hgI v7.2 a1 [10] 3) fun f20 => wt_ck (hcl v7.2 a0 = some 11) <| wt_bd (eX14_times v7.2 a0 ((w2.1 - f20) + v7.1)) fun w23 => wt_ck (hcl w23 a0 = some 11) <| wt_bd (eX14_by w23 a0 v7.1) fun w26 => wt_lt (v7.1 + (1 : Int32)) fun n28 => some (.inl (n28, w26)))
noncomputable def bX11_times_2 (o_ : Nat) (a0 : Nat) (a1 : Nat) (v29 : Int32 × HP) : Option ((Int32 × HP) ⊕ (HP)) :=
  wt_bd (hgI v29.2 a1 [10] 3) fun f39 => if f39 ≤ v29.1 then (some (.inr v29.2)) else (wt_bd (hgA v29.2 o_ [8] 6) fun ad42 => wt_bd (hgA v29.2 ad42 [0] 0) fun ad44 => wt_bd (hgI v29.2 ad44 [1] 6) fun f46 => wt_ck (hcl v29.2 a0 = some 11) <| wt_bd (eX14_times v29.2 a0 f46) fun w49 => wt_lt (v29.1 + (1 : Int32)) fun n51 => some (.inl (n51, w49)))
noncomputable def bX11_times_3 (o_ : Nat) (a0 : Nat) (w2 : Int32 × HP) (v54 : Int32 × HP) : Option ((Int32 × HP) ⊕ (HP)) :=
  if w2.1 ≤ v54.1 then (some (.inr v54.2)) else (wt_bd (hgA v54.2 o_ [8] 6) fun ad65 => wt_bd (hgA v54.2 ad65 [0] 0) fun ad67 => wt_bd (hgI v54.2 ad67 [1] 6) fun f69 => wt_ck (hcl v54.2 a0 = some 11) <| wt_bd (eX14_times v54.2 a0 ((16 : Int32) - f69)) fun w72 => wt_lt (v54.1 + (1 : Int32)) fun n74 => some (.inl (n74, w72)))
noncomputable def eX11_times (τ : HP) (o_ : Nat) (a0 : Nat) (a1 : Nat) : Option (HP) :=
  wt_ck (hcl τ o_ = some 8) <| wt_bd (eX11_pile τ o_ a1) fun w2 => wt_bd (hgI w2.2 a1 [10] 3) fun f4 => if f4 ≤ w2.1 then (wt_bd (wt_whC (bX11_times_1 a0 a1 w2) ((1 : Int32), w2.2)) fun w8 => wt_bd (wt_whC (bX11_times_2 o_ a0 a1) ((0 : Int32), w8)) fun w30 => wt_bd (hgI w30 a1 [10] 3) fun f52 => wt_bd (wt_whC (bX11_times_3 o_ a0 w2) (f52, w30)) fun w55 => some w55) else (wt_ck (hcl w2.2 a0 = some 11) <| wt_bd (eX14_times w2.2 a0 (0 : Int32)) fun w76 => some w76)
set_option maxHeartbeats 4000000 in
theorem wX11_times (l : Launch) {G : HG} {A : Nat → Prop} {τ : HP} {o_ : Nat} {a0 : Nat} {a1 : Nat} {out_ : HP} (hd : eX11_times τ o_ a0 a1 = some out_) : Met l yX11_times (ws_ yX11_times cX11_times 5 none) ({ frames := 7, cells := 3, slots := 113, locals := 153 }) (hPc G A τ [.ref o_, .ref a0, .ref a1]) (hQv G out_ A) 3 113 A := by
  refine Met.ofW (cc := cX11_times) (maxL := 5) (ret := none) (by decide) rfl ?_
  intro p_ e_ s_ m_ args_ below_ meth_ c_ s₁_ B hml hv
  obtain ⟨rfl, hW, hC⟩ := hv
  have hx := B.exec
  have hb := B.bytes
  have hr := B.returns
  have hts := atoms_spec (ws := (ws_ yX11_times cX11_times 5 none)) B.pre
  have hts : ∀ w ∈ lw_all, w.before _ s_ = true := fun w h => hts w (List.mem_cons_of_mem _ h)
  have hown : s_.vm.findClass RX11 = some m_.cls := findClass_of_methodNamed B.named
  have hlocks := B.notSynchronized
  have hK := hC.1
  have hT := hC.2.1
  have hL := hC.2.2.1
  have hZ := hC.2.2.2.2.1
  have hA := hC.2.2.2.2.2
  have hS : va_S A s_.heap s_.heap [] := va_S.rf
  have hl := lv_entry ([.ref o_, .ref a0, .ref a1]) (n := 5) (Nat.le_of_ble_eq_true rfl)
  rw [lg_entry_eq]
  generalize (lg_sl ([.ref o_, .ref a0, .ref a1]) ++ List.replicate (5 - (lg_sl ([.ref o_, .ref a0, .ref a1])).length) Slot.unset).toArray = ls at hl ⊢
  have hl : lv_has ls 5 [(0, .ref o_), (1, .ref a0), (2, .ref a1)] := hl
  unfold eX11_times at hd
  refine lv_aload_n (pc := 0) hx hb dX11_times_0 rfl (lv_at hl 0 rfl) ?_
  refine lv_aload_n (pc := 1) hx hb dX11_times_1 rfl (lv_at hl 2 rfl) ?_
  obtain ⟨h1, hd⟩ := wt_ck_o hd
  obtain ⟨w2, hc3, hd⟩ := wt_bd_o hd
  refine kX11_pile (pc := 2) hx hb hml hown hts hC hW hS h1 hc3 hl.1 (Nat.le_of_ble_eq_true rfl) ⟨Nat.le_of_ble_eq_true rfl, Nat.le_of_ble_eq_true rfl⟩ ⟨(Nat.le_of_ble_eq_true rfl), (Nat.le_of_ble_eq_true rfl)⟩ q1262 dX11_times_2 (fun H locs hW hS => ?_)
  refine lv_istore_n (pc := 5) (lv' := [(3, .int w2.1), (0, .ref o_), (1, .ref a0), (2, .ref a1)]) hx hb dX11_times_5 rfl hl (by decide) rfl (fun ls hl => ?_)
  refine lv_aload_n (pc := 6) hx hb dX11_times_6 rfl (lv_at hl 3 rfl) ?_
  obtain ⟨f4, h5, hd⟩ := wt_bd_o hd
  refine hr_getN (pc := 7) hx hb hts hown hK hT hW (hgI_o h5) hf_10_3 (fun _ h => h) q1178 dX11_times_7 ?_
  refine lv_iload_n (pc := 10) hx hb dX11_times_10 rfl (lv_at hl 0 rfl) ?_
  refine lv_icmp_le (pc := 11) (tgt := 20) hx hb dX11_times_11 (by decide) (fun c6 => ?_) (fun c6 => ?_)
  · have hd := wt_it hd c6
    refine lv_iconst (pc := 20) (v := 1) hx hb dX11_times_20 (by decide) ?_
    refine lv_istore (pc := 21) (lv' := [(4, .int (1 : Int32)), (3, .int w2.1), (0, .ref o_), (1, .ref a0), (2, .ref a1)]) hx hb dX11_times_21 hl (by decide) rfl (fun ls hl => ?_)
    obtain ⟨w8, hL9, hq10⟩ := wt_bd_o hd
    have hX11 : ∀ w8_ : HP, w8_ = w8 → ∀ (H : Heap) (locs : List Loc) (ls : Array Slot), Hw G A w8_ H → va_S A s_.heap H locs → lv_has ls 5 [(0, .ref o_), (1, .ref a0), (2, .ref a1), (3, .int w2.1)] → W p_ l e_ (headSpec (ws_ yX11_times cX11_times 5 none) ({ frames := 7, cells := 3, slots := 113, locals := 153 })).room s_ m_ ([.ref o_, .ref a0, .ref a1] : List Value).toArray below_ meth_ c_ H locs 3 113 (MQ below_ (hQv G out_ A) ([.ref o_, .ref a0, .ref a1] : List Value).toArray s_ 3 113 A) (F0 m_ 57 ls []) := by
      intro w8_ hw_
      have hd := hq10
      subst hw_
      clear hL9 hq10
      intro H locs ls hW hS hl
      refine lv_iconst (pc := 57) (v := 0) hx hb dX11_times_57 (by decide) ?_
      refine lv_istore (pc := 58) (lv' := [(4, .int (0 : Int32)), (0, .ref o_), (1, .ref a0), (2, .ref a1), (3, .int w2.1)]) hx hb dX11_times_58 hl (by decide) rfl (fun ls hl => ?_)
      obtain ⟨w30, hL31, hq32⟩ := wt_bd_o hd
      have hX33 : ∀ w30_ : HP, w30_ = w30 → ∀ (H : Heap) (locs : List Loc) (ls : Array Slot), Hw G A w30_ H → va_S A s_.heap H locs → lv_has ls 5 [(0, .ref o_), (1, .ref a0), (2, .ref a1), (3, .int w2.1)] → W p_ l e_ (headSpec (ws_ yX11_times cX11_times 5 none) ({ frames := 7, cells := 3, slots := 113, locals := 153 })).room s_ m_ ([.ref o_, .ref a0, .ref a1] : List Value).toArray below_ meth_ c_ H locs 3 113 (MQ below_ (hQv G out_ A) ([.ref o_, .ref a0, .ref a1] : List Value).toArray s_ 3 113 A) (F0 m_ 89 ls []) := by
        intro w30_ hw_
        have hd := hq32
        subst hw_
        clear hL31 hq32
        intro H locs ls hW hS hl
        refine lv_aload_n (pc := 89) hx hb dX11_times_89 rfl (lv_at hl 2 rfl) ?_
        obtain ⟨f52, h53, hd⟩ := wt_bd_o hd
        refine hr_getN (pc := 90) hx hb hts hown hK hT hW (hgI_o h53) hf_10_3 (fun _ h => h) q1178 dX11_times_90 ?_
        refine lv_istore (pc := 93) (lv' := [(4, .int f52), (0, .ref o_), (1, .ref a0), (2, .ref a1), (3, .int w2.1)]) hx hb dX11_times_93 hl (by decide) rfl (fun ls hl => ?_)
        obtain ⟨w55, hL56, hq57⟩ := wt_bd_o hd
        have hX58 : ∀ w55_ : HP, w55_ = w55 → ∀ (H : Heap) (locs : List Loc) (ls : Array Slot), Hw G A w55_ H → va_S A s_.heap H locs → lv_has ls 5 [] → W p_ l e_ (headSpec (ws_ yX11_times cX11_times 5 none) ({ frames := 7, cells := 3, slots := 113, locals := 153 })).room s_ m_ ([.ref o_, .ref a0, .ref a1] : List Value).toArray below_ meth_ c_ H locs 3 113 (MQ below_ (hQv G out_ A) ([.ref o_, .ref a0, .ref a1] : List Value).toArray s_ 3 113 A) (F0 m_ 124 ls []) := by
          intro w55_ hw_
          have hd := hq57
          subst hw_
          clear hL56 hq57
          intro H locs ls hW hS hl
          exact hr_vret hx hb hr hlocks (Option.some.inj hd) hW hS dX11_times_124 (Nat.le_of_ble_eq_true rfl) (Nat.le_of_ble_eq_true rfl)
        have hI63 : ∀ (k62 : Nat) (v54 : Int32 × HP), wt_wh (bX11_times_3 o_ a0 w2) k62 v54 = some w55 → ∀ (H : Heap) (locs : List Loc) (ls : Array Slot), Hw G A v54.2 H → va_S A s_.heap H locs → lv_has ls 5 [(0, .ref o_), (1, .ref a0), (3, .int w2.1), (4, .int v54.1)] → W p_ l e_ (headSpec (ws_ yX11_times cX11_times 5 none) ({ frames := 7, cells := 3, slots := 113, locals := 153 })).room s_ m_ ([.ref o_, .ref a0, .ref a1] : List Value).toArray below_ meth_ c_ H locs 3 113 (MQ below_ (hQv G out_ A) ([.ref o_, .ref a0, .ref a1] : List Value).toArray s_ 3 113 A) (F0 m_ 95 ls []) := by
          intro k62
          induction k62 with
          | zero => intro v54 hd; exact absurd hd wt_wh_z
          | succ k62 ih60 =>
            intro v54 hd
            intro H locs ls hW hS hl
            obtain ⟨r61, hd, hk59⟩ := wt_wh_o hd
            unfold bX11_times_3 at hd
            refine lv_iload (pc := 95) hx hb dX11_times_95 (lv_at hl 3 rfl) ?_
            refine lv_iload_n (pc := 97) hx hb dX11_times_97 rfl (lv_at hl 2 rfl) ?_
            refine lv_icmp_ge (pc := 98) (tgt := 124) hx hb dX11_times_98 (by decide) (fun c64 => ?_) (fun c64 => ?_)
            · have hd := wt_it hd c64
              exact hX58 v54.2 (wt_exit hd hk59) _ _ _ hW hS (lv_sub hl [] rfl)
            · have hd := wt_if hd c64
              refine lv_aload_n (pc := 101) hx hb dX11_times_101 rfl (lv_at hl 1 rfl) ?_
              refine lv_bipush (pc := 102) (v := 16) hx hb dX11_times_102 (by decide) ?_
              refine lv_aload_n (pc := 104) hx hb dX11_times_104 rfl (lv_at hl 0 rfl) ?_
              obtain ⟨ad65, h66, hd⟩ := wt_bd_o hd
              refine hr_get (pc := 105) hx hb hts hown hK hW (hgA_o h66) hf_8_6 (fun _ h => h) q1041 dX11_times_105 ?_
              obtain ⟨ad67, h68, hd⟩ := wt_bd_o hd
              refine hr_getN (pc := 108) hx hb hts hown hK hT hW (hgA_o h68) hf_0_0 (fun _ h => h) q535 dX11_times_108 ?_
              obtain ⟨f69, h70, hd⟩ := wt_bd_o hd
              refine hr_getN (pc := 111) hx hb hts hown hK hT hW (hgI_o h70) hf_1_6 (fun _ h => h) q140 dX11_times_111 ?_
              refine lv_isub (pc := 114) hx hb dX11_times_114 ?_
              obtain ⟨h71, hd⟩ := wt_ck_o hd
              obtain ⟨w72, hc73, hd⟩ := wt_bd_o hd
              refine kX14_times (pc := 115) hx hb hml hown hts hC hW hS h71 hc73 hl.1 (Nat.le_of_ble_eq_true rfl) ⟨Nat.le_of_ble_eq_true rfl, Nat.le_of_ble_eq_true rfl⟩ ⟨Nat.le_of_ble_eq_true rfl, Nat.le_of_ble_eq_true rfl⟩ q1300 dX11_times_115 (fun H locs hW hS => ?_)
              obtain ⟨n74, en74, hd⟩ := wt_lt_o hd
              refine lv_iinc (pc := 118) (k := 3) (v := n74) (lv' := [(4, .int n74), (0, .ref o_), (1, .ref a0), (3, .int w2.1)]) hx hb dX11_times_118 hl rfl en74.symm (by decide) rfl (fun ls hl => ?_)
              refine lv_goto (pc := 121) (tgt := 95) hx hb dX11_times_121 (by decide) ?_
              exact ih60 _ (wt_again hd hk59) _ _ _ hW hS (lv_sub hl [1, 2, 3, 0] rfl)
        obtain ⟨k62, hL56⟩ := wt_whC_o hL56
        exact hI63 k62 _ hL56 _ _ _ hW hS (lv_sub hl [1, 2, 4, 0] rfl)
      have hI38 : ∀ (k37 : Nat) (v29 : Int32 × HP), wt_wh (bX11_times_2 o_ a0 a1) k37 v29 = some w30 → ∀ (H : Heap) (locs : List Loc) (ls : Array Slot), Hw G A v29.2 H → va_S A s_.heap H locs → lv_has ls 5 [(0, .ref o_), (1, .ref a0), (2, .ref a1), (3, .int w2.1), (4, .int v29.1)] → W p_ l e_ (headSpec (ws_ yX11_times cX11_times 5 none) ({ frames := 7, cells := 3, slots := 113, locals := 153 })).room s_ m_ ([.ref o_, .ref a0, .ref a1] : List Value).toArray below_ meth_ c_ H locs 3 113 (MQ below_ (hQv G out_ A) ([.ref o_, .ref a0, .ref a1] : List Value).toArray s_ 3 113 A) (F0 m_ 60 ls []) := by
        intro k37
        induction k37 with
        | zero => intro v29 hd; exact absurd hd wt_wh_z
        | succ k37 ih35 =>
          intro v29 hd
          intro H locs ls hW hS hl
          obtain ⟨r36, hd, hk34⟩ := wt_wh_o hd
          unfold bX11_times_2 at hd
          refine lv_iload (pc := 60) hx hb dX11_times_60 (lv_at hl 4 rfl) ?_
          refine lv_aload_n (pc := 62) hx hb dX11_times_62 rfl (lv_at hl 2 rfl) ?_
          obtain ⟨f39, h40, hd⟩ := wt_bd_o hd
          refine hr_getN (pc := 63) hx hb hts hown hK hT hW (hgI_o h40) hf_10_3 (fun _ h => h) q1178 dX11_times_63 ?_
          refine lv_icmp_ge (pc := 66) (tgt := 89) hx hb dX11_times_66 (by decide) (fun c41 => ?_) (fun c41 => ?_)
          · have hd := wt_it hd c41
            exact hX33 v29.2 (wt_exit hd hk34) _ _ _ hW hS (lv_sub hl [0, 1, 2, 3] rfl)
          · have hd := wt_if hd c41
            refine lv_aload_n (pc := 69) hx hb dX11_times_69 rfl (lv_at hl 1 rfl) ?_
            refine lv_aload_n (pc := 70) hx hb dX11_times_70 rfl (lv_at hl 0 rfl) ?_
            obtain ⟨ad42, h43, hd⟩ := wt_bd_o hd
            refine hr_get (pc := 71) hx hb hts hown hK hW (hgA_o h43) hf_8_6 (fun _ h => h) q1041 dX11_times_71 ?_
            obtain ⟨ad44, h45, hd⟩ := wt_bd_o hd
            refine hr_getN (pc := 74) hx hb hts hown hK hT hW (hgA_o h45) hf_0_0 (fun _ h => h) q535 dX11_times_74 ?_
            obtain ⟨f46, h47, hd⟩ := wt_bd_o hd
            refine hr_getN (pc := 77) hx hb hts hown hK hT hW (hgI_o h47) hf_1_6 (fun _ h => h) q140 dX11_times_77 ?_
            obtain ⟨h48, hd⟩ := wt_ck_o hd
            obtain ⟨w49, hc50, hd⟩ := wt_bd_o hd
            refine kX14_times (pc := 80) hx hb hml hown hts hC hW hS h48 hc50 hl.1 (Nat.le_of_ble_eq_true rfl) ⟨Nat.le_of_ble_eq_true rfl, Nat.le_of_ble_eq_true rfl⟩ ⟨Nat.le_of_ble_eq_true rfl, Nat.le_of_ble_eq_true rfl⟩ q1300 dX11_times_80 (fun H locs hW hS => ?_)
            obtain ⟨n51, en51, hd⟩ := wt_lt_o hd
            refine lv_iinc (pc := 83) (k := 4) (v := n51) (lv' := [(4, .int n51), (0, .ref o_), (1, .ref a0), (2, .ref a1), (3, .int w2.1)]) hx hb dX11_times_83 hl rfl en51.symm (by decide) rfl (fun ls hl => ?_)
            refine lv_goto (pc := 86) (tgt := 60) hx hb dX11_times_86 (by decide) ?_
            exact ih35 _ (wt_again hd hk34) _ _ _ hW hS (lv_sub hl [1, 2, 3, 4, 0] rfl)
      obtain ⟨k37, hL31⟩ := wt_whC_o hL31
      exact hI38 k37 _ hL31 _ _ _ hW hS (lv_sub hl [1, 2, 3, 4, 0] rfl)
    have hI16 : ∀ (k15 : Nat) (v7 : Int32 × HP), wt_wh (bX11_times_1 a0 a1 w2) k15 v7 = some w8 → ∀ (H : Heap) (locs : List Loc) (ls : Array Slot), Hw G A v7.2 H → va_S A s_.heap H locs → lv_has ls 5 [(0, .ref o_), (1, .ref a0), (2, .ref a1), (3, .int w2.1), (4, .int v7.1)] → W p_ l e_ (headSpec (ws_ yX11_times cX11_times 5 none) ({ frames := 7, cells := 3, slots := 113, locals := 153 })).room s_ m_ ([.ref o_, .ref a0, .ref a1] : List Value).toArray below_ meth_ c_ H locs 3 113 (MQ below_ (hQv G out_ A) ([.ref o_, .ref a0, .ref a1] : List Value).toArray s_ 3 113 A) (F0 m_ 23 ls []) := by
      intro k15
      induction k15 with
      | zero => intro v7 hd; exact absurd hd wt_wh_z
      | succ k15 ih13 =>
        intro v7 hd
        intro H locs ls hW hS hl
        obtain ⟨r14, hd, hk12⟩ := wt_wh_o hd
        unfold bX11_times_1 at hd
        refine lv_iload (pc := 23) hx hb dX11_times_23 (lv_at hl 4 rfl) ?_
        refine lv_aload_n (pc := 25) hx hb dX11_times_25 rfl (lv_at hl 2 rfl) ?_
        obtain ⟨f17, h18, hd⟩ := wt_bd_o hd
        refine hr_getN (pc := 26) hx hb hts hown hK hT hW (hgI_o h18) hf_10_3 (fun _ h => h) q1178 dX11_times_26 ?_
        refine lv_icmp_gt (pc := 29) (tgt := 57) hx hb dX11_times_29 (by decide) (fun c19 => ?_) (fun c19 => ?_)
        · have hd := wt_it hd c19
          exact hX11 v7.2 (wt_exit hd hk12) _ _ _ hW hS (lv_sub hl [0, 1, 2, 3] rfl)
        · have hd := wt_if hd c19
          refine lv_aload_n (pc := 32) hx hb dX11_times_32 rfl (lv_at hl 1 rfl) ?_
          refine lv_iload_n (pc := 33) hx hb dX11_times_33 rfl (lv_at hl 3 rfl) ?_
          refine lv_aload_n (pc := 34) hx hb dX11_times_34 rfl (lv_at hl 2 rfl) ?_
          obtain ⟨f20, h21, hd⟩ := wt_bd_o hd
          refine hr_getN (pc := 35) hx hb hts hown hK hT hW (hgI_o h21) hf_10_3 (fun _ h => h) q1178 dX11_times_35 ?_
          refine lv_isub (pc := 38) hx hb dX11_times_38 ?_
          refine lv_iload (pc := 39) hx hb dX11_times_39 (lv_at hl 4 rfl) ?_
          refine lv_iadd (pc := 41) hx hb dX11_times_41 ?_
          obtain ⟨h22, hd⟩ := wt_ck_o hd
          obtain ⟨w23, hc24, hd⟩ := wt_bd_o hd
          refine kX14_times (pc := 42) hx hb hml hown hts hC hW hS h22 hc24 hl.1 (Nat.le_of_ble_eq_true rfl) ⟨Nat.le_of_ble_eq_true rfl, Nat.le_of_ble_eq_true rfl⟩ ⟨Nat.le_of_ble_eq_true rfl, Nat.le_of_ble_eq_true rfl⟩ q1300 dX11_times_42 (fun H locs hW hS => ?_)
          refine lv_aload_n (pc := 45) hx hb dX11_times_45 rfl (lv_at hl 1 rfl) ?_
          refine lv_iload (pc := 46) hx hb dX11_times_46 (lv_at hl 4 rfl) ?_
          obtain ⟨h25, hd⟩ := wt_ck_o hd
          obtain ⟨w26, hc27, hd⟩ := wt_bd_o hd
          refine kX14_by (pc := 48) hx hb hml hown hts hC hW hS h25 hc27 hl.1 (Nat.le_of_ble_eq_true rfl) ⟨Nat.le_of_ble_eq_true rfl, Nat.le_of_ble_eq_true rfl⟩ ⟨Nat.le_of_ble_eq_true rfl, Nat.le_of_ble_eq_true rfl⟩ q1305 dX11_times_48 (fun H locs hW hS => ?_)
          obtain ⟨n28, en28, hd⟩ := wt_lt_o hd
          refine lv_iinc (pc := 51) (k := 4) (v := n28) (lv' := [(4, .int n28), (0, .ref o_), (1, .ref a0), (2, .ref a1), (3, .int w2.1)]) hx hb dX11_times_51 hl rfl en28.symm (by decide) rfl (fun ls hl => ?_)
          refine lv_goto (pc := 54) (tgt := 23) hx hb dX11_times_54 (by decide) ?_
          exact ih13 _ (wt_again hd hk12) _ _ _ hW hS (lv_sub hl [1, 2, 3, 4, 0] rfl)
    obtain ⟨k15, hL9⟩ := wt_whC_o hL9
    exact hI16 k15 _ hL9 _ _ _ hW hS (lv_sub hl [2, 3, 4, 1, 0] rfl)
  · have hd := wt_if hd c6
    refine lv_aload_n (pc := 14) hx hb dX11_times_14 rfl (lv_at hl 2 rfl) ?_
    refine lv_iconst (pc := 15) (v := 0) hx hb dX11_times_15 (by decide) ?_
    obtain ⟨h75, hd⟩ := wt_ck_o hd
    obtain ⟨w76, hc77, hd⟩ := wt_bd_o hd
    refine kX14_times (pc := 16) hx hb hml hown hts hC hW hS h75 hc77 hl.1 (Nat.le_of_ble_eq_true rfl) ⟨Nat.le_of_ble_eq_true rfl, Nat.le_of_ble_eq_true rfl⟩ ⟨Nat.le_of_ble_eq_true rfl, Nat.le_of_ble_eq_true rfl⟩ q1300 dX11_times_16 (fun H locs hW hS => ?_)
    exact hr_vret hx hb hr hlocks (Option.some.inj hd) hW hS dX11_times_19 (Nat.le_of_ble_eq_true rfl) (Nat.le_of_ble_eq_true rfl)
theorem kX11_times {p : Program} {l : Launch} {e : Env} {R : Room} {s : State} {m : MethodId} {args : Array Value} {below : List Frame} {meth : Method} {c : Code} {H : Heap} {locs : List Loc} {cells slots : Nat} {Q : State → Prop} {cc : ByteArray} {pc : Nat} {ls : Array Slot} {rest : List Value} {nL : Nat} {own : String} {index : Nat} {G : HG} {A : Nat → Prop} {τ : HP} {o_ : Nat} {a0 : Nat} {a1 : Nat} {out_ : HP} (hx : p.tables.exec = Jvm.exec) (hb : c.code = cc) (hml : c.maxLocals = nL) (hown : s.vm.findClass own = some m.cls) (hts : ∀ w ∈ lw_all, w.before args s = true) (hC : Hcx G A s) (hW : Hw G A τ H) (hS : va_S A s.heap H locs) (hrc : hcl τ o_ = some 8) (hd : eX11_times τ o_ a0 a1 = some out_) (hsz : ls.size = nL) (hrm : (rest.map fun v => v.category).sum ≤ 8) (hR : 8 ≤ R.frames ∧ 177 ≤ R.locals) (hcs : (cells + 3) ≤ R.cells ∧ (slots + 113) ≤ R.slots) (hlk : Cond.methodLink own index yX11_times ∈ lw_all) (hdg : decode cc pc = .ok (.invokevirtual index, 3)) (kk : ∀ (H1 : Heap) (locs1 : List Loc), Hw G A out_ H1 → va_S A s.heap H1 locs1 → W p l e R s m args below meth c H1 locs1 (cells + 3) (slots + 113) Q (F0 m (pc + 3) ls (rest))) : W p l e R s m args below meth c H locs cells slots Q (F0 m pc ls (.ref a1 :: .ref a0 :: .ref o_ :: rest)) := by
  refine va_callv (va_runV (As := [.ref a0, .ref a1]) (rest := rest) ⟨hx, hb, hml, hown, hts⟩ (wX11_times l hd) (cwV 2 hts (lw_V hlk q1298 qs20 q97 q1299) rfl rfl rfl (by decide +kernel) hR) (hr_preV hC hW hS hrc rfl rfl) rfl rfl hsz rfl (lv_room hrm) hdg hcs) hS (fun _ _ h => h) (fun _ h => h) (fun u t H1 locs1 ht hvm hp hB hz hk hS1 => ?_)
  have hW1 : Hw G A out_ t.heap := hB
  rw [ht] at hW1
  exact kk H1 locs1 hW1 hS1
noncomputable def bX11_number_1 (τ : HP) (o_ : Nat) (a0 : Int32) (v4 : Int32 × HP × Nat × Nat) : Option ((Int32 × HP × Nat × Nat) ⊕ (HP × Nat × Nat)) :=
  wt_bd (hgA v4.2.1 o_ [8] 6) fun ad14 => wt_bd (hgA v4.2.1 ad14 [0] 1) fun ad16 => wt_bd (hgA v4.2.1 ad16 [2] 0) fun ad18 => wt_ck (hcl v4.2.1 ad18 = some 13) <| wt_bd (eJ2_size v4.2.1 ad18) fun w21 => wt_ck (v4.2.2.1 ≤ 30 ∧ v4.2.2.2 ≤ 1300) <| if w21 ≤ v4.1 then (some (.inr (v4.2.1, v4.2.2.1, v4.2.2.2))) else (wt_bd (if a0 = (-1 : Int32) then (some (.inl ())) else (if a0 = v4.1 then (some (.inl ())) else (wt_lt (v4.1 + (1 : Int32)) fun n31 => some (.inr (.inl (n31, v4.2.1, v4.2.2.1, v4.2.2.2)))))) fun w25 => wt_rs w25 (fun w25 => wt_bd (hgA v4.2.1 o_ [8] 6) fun ad32 => wt_bd (hgA v4.2.1 ad32 [0] 1) fun ad34 => wt_bd (hgA v4.2.1 ad34 [2] 0) fun ad36 => wt_ck (hcl v4.2.1 ad36 = some 13) <| wt_bd (eJ2_get v4.2.1 ad36 v4.1) fun w39 => wt_ck (v4.2.2.1 ≤ 30 ∧ v4.2.2.2 ≤ 1300) <| wt_ck (hcl v4.2.1 w39 = some 10) <| wt_ck (hcl v4.2.1 o_ = some 8) <| wt_bd (eX11_times v4.2.1 o_ τ.2 w39) fun w44 => wt_ck ((v4.2.2.1 + 3) ≤ 30 ∧ (v4.2.2.2 + 113) ≤ 1300) <| wt_lt (v4.1 + (1 : Int32)) fun n47 => some (.inl (n47, w44, (v4.2.2.1 + 3), (v4.2.2.2 + 113)))) (fun z_ => some z_))
noncomputable def eX11_number (τ : HP) (o_ : Nat) (a0 : Int32) : Option (Nat × HP) :=
  wt_lt (hnew τ (.inr (11, [.null, .int 0]))) fun τ1 => wt_bd (eX14_init τ1 τ.2 (1 : Int32)) fun w2 => wt_bd (wt_whC (bX11_number_1 τ o_ a0) ((0 : Int32), w2, 2, 312)) fun w5 => wt_ck (w5.2.1 ≤ 30 ∧ w5.2.2 ≤ 1300) <| some (τ.2, w5.1)
set_option maxHeartbeats 4000000 in
theorem wX11_number (l : Launch) {G : HG} {A : Nat → Prop} {τ : HP} {o_ : Nat} {a0 : Int32} {out_ : Nat × HP} (hd : eX11_number τ o_ a0 = some out_) : Met l yX11_number (ws_ yX11_number cX11_number 4 (some (.object "WoolThreads$Great"))) ({ frames := 8, cells := 30, slots := 1300, locals := 177 }) (hPc G A τ [.ref o_, .int a0]) (hQr G out_.1 out_.2 A) 30 1300 A := by
  refine Met.ofW (cc := cX11_number) (maxL := 4) (ret := (some (.object "WoolThreads$Great"))) (by decide) rfl ?_
  intro p_ e_ s_ m_ args_ below_ meth_ c_ s₁_ B hml hv
  obtain ⟨rfl, hW, hC⟩ := hv
  have hx := B.exec
  have hb := B.bytes
  have hr := B.returns
  have hts := atoms_spec (ws := (ws_ yX11_number cX11_number 4 (some (.object "WoolThreads$Great")))) B.pre
  have hts : ∀ w ∈ lw_all, w.before _ s_ = true := fun w h => hts w (List.mem_cons_of_mem _ h)
  have hown : s_.vm.findClass RX11 = some m_.cls := findClass_of_methodNamed B.named
  have hlocks := B.notSynchronized
  have hK := hC.1
  have hT := hC.2.1
  have hL := hC.2.2.1
  have hZ := hC.2.2.2.2.1
  have hA := hC.2.2.2.2.2
  have hS : va_S A s_.heap s_.heap [] := va_S.rf
  have hl := lv_entry ([.ref o_, .int a0]) (n := 4) (Nat.le_of_ble_eq_true rfl)
  rw [lg_entry_eq]
  generalize (lg_sl ([.ref o_, .int a0]) ++ List.replicate (4 - (lg_sl ([.ref o_, .int a0])).length) Slot.unset).toArray = ls at hl ⊢
  have hl : lv_has ls 4 [(0, .ref o_), (1, .int a0)] := hl
  unfold eX11_number at hd
  obtain ⟨τ1, eτ1, hd⟩ := wt_lt_o hd
  refine hr_new (pc := 0) (ci := 11) (fs := [.null, .int 0]) hx hb hts hown hK hW hS hA rfl tyX14 tyX14_ok (by decide +kernel) q1279 q1280 q102 eτ1 (Nat.le_of_ble_eq_true rfl) (Nat.le_of_ble_eq_true rfl) dX11_number_0 (fun H hW hS => ?_)
  refine lv_dup (pc := 3) hx hb dX11_number_3 rfl ?_
  refine lv_iconst (pc := 4) (v := 1) hx hb dX11_number_4 (by decide) ?_
  obtain ⟨w2, hc3, hd⟩ := wt_bd_o hd
  refine kX14_init (pc := 5) hx hb hml hown hts hC hW hS hc3 hl.1 (Nat.le_of_ble_eq_true rfl) ⟨Nat.le_of_ble_eq_true rfl, Nat.le_of_ble_eq_true rfl⟩ ⟨(Nat.le_of_ble_eq_true rfl), (Nat.le_of_ble_eq_true rfl)⟩ q1281 dX11_number_5 (fun H locs hW hS => ?_)
  refine lv_astore_n (pc := 8) (lv' := [(2, .ref (τ.2)), (0, .ref o_), (1, .int a0)]) hx hb dX11_number_8 rfl hl (by decide) rfl (fun ls hl => ?_)
  refine lv_iconst (pc := 9) (v := 0) hx hb dX11_number_9 (by decide) ?_
  refine lv_istore_n (pc := 10) (lv' := [(3, .int (0 : Int32)), (2, .ref (τ.2)), (0, .ref o_), (1, .int a0)]) hx hb dX11_number_10 rfl hl (by decide) rfl (fun ls hl => ?_)
  obtain ⟨w5, hL6, hq7⟩ := wt_bd_o hd
  have hX8 : ∀ w5_ : HP × Nat × Nat, w5_ = w5 → ∀ (H : Heap) (locs : List Loc) (ls : Array Slot), Hw G A w5_.1 H → va_S A s_.heap H locs → lv_has ls 4 [(2, .ref (τ.2))] → W p_ l e_ (headSpec (ws_ yX11_number cX11_number 4 (some (.object "WoolThreads$Great"))) ({ frames := 8, cells := 30, slots := 1300, locals := 177 })).room s_ m_ ([.ref o_, .int a0] : List Value).toArray below_ meth_ c_ H locs w5_.2.1 w5_.2.2 (MQ below_ (hQr G out_.1 out_.2 A) ([.ref o_, .int a0] : List Value).toArray s_ 30 1300 A) (F0 m_ 66 ls []) := by
    intro w5_ hw_
    have hd := hq7
    subst hw_
    clear hL6 hq7
    intro H locs ls hW hS hl
    refine lv_aload_n (pc := 66) hx hb dX11_number_66 rfl (lv_at hl 0 rfl) ?_
    obtain ⟨h48, hd⟩ := wt_ck_o hd
    exact hr_aret hx hb hr (Or.inl ⟨_, rfl⟩) hlocks (wt_p1 hd) (wt_p2 hd) hW hS dX11_number_67 (h48.1) (h48.2)
  have hI13 : ∀ (k12 : Nat) (v4 : Int32 × HP × Nat × Nat), wt_wh (bX11_number_1 τ o_ a0) k12 v4 = some w5 → ∀ (H : Heap) (locs : List Loc) (ls : Array Slot), Hw G A v4.2.1 H → va_S A s_.heap H locs → lv_has ls 4 [(0, .ref o_), (1, .int a0), (2, .ref (τ.2)), (3, .int v4.1)] → W p_ l e_ (headSpec (ws_ yX11_number cX11_number 4 (some (.object "WoolThreads$Great"))) ({ frames := 8, cells := 30, slots := 1300, locals := 177 })).room s_ m_ ([.ref o_, .int a0] : List Value).toArray below_ meth_ c_ H locs v4.2.2.1 v4.2.2.2 (MQ below_ (hQr G out_.1 out_.2 A) ([.ref o_, .int a0] : List Value).toArray s_ 30 1300 A) (F0 m_ 11 ls []) := by
    intro k12
    induction k12 with
    | zero => intro v4 hd; exact absurd hd wt_wh_z
    | succ k12 ih10 =>
      intro v4 hd
      intro H locs ls hW hS hl
      obtain ⟨r11, hd, hk9⟩ := wt_wh_o hd
      unfold bX11_number_1 at hd
      refine lv_iload_n (pc := 11) hx hb dX11_number_11 rfl (lv_at hl 3 rfl) ?_
      refine lv_aload_n (pc := 12) hx hb dX11_number_12 rfl (lv_at hl 0 rfl) ?_
      obtain ⟨ad14, h15, hd⟩ := wt_bd_o hd
      refine hr_get (pc := 13) hx hb hts hown hK hW (hgA_o h15) hf_8_6 (fun _ h => h) q1041 dX11_number_13 ?_
      obtain ⟨ad16, h17, hd⟩ := wt_bd_o hd
      refine hr_getN (pc := 16) hx hb hts hown hK hT hW (hgA_o h17) hf_0_1 (fun _ h => h) q537 dX11_number_16 ?_
      obtain ⟨ad18, h19, hd⟩ := wt_bd_o hd
      refine hr_getN (pc := 19) hx hb hts hown hK hT hW (hgA_o h19) hf_2_0 (fun _ h => h) q514 dX11_number_19 ?_
      obtain ⟨h20, hd⟩ := wt_ck_o hd
      obtain ⟨w21, hc22, hd⟩ := wt_bd_o hd
      obtain ⟨h23, hd⟩ := wt_ck_o hd
      refine kJ2_size (pc := 22) hx hb hml hown hts hC hW hS h20 hc22 hl.1 (Nat.le_of_ble_eq_true rfl) ⟨Nat.le_of_ble_eq_true rfl, Nat.le_of_ble_eq_true rfl⟩ ⟨h23.1, h23.2⟩ q1095 dX11_number_22 (fun H locs hW hS => ?_)
      refine lv_icmp_ge (pc := 25) (tgt := 66) hx hb dX11_number_25 (by decide) (fun c24 => ?_) (fun c24 => ?_)
      · have hd := wt_it hd c24
        exact hX8 (v4.2.1, v4.2.2.1, v4.2.2.2) (wt_exit hd hk9) _ _ _ hW hS (lv_sub hl [2] rfl)
      · have hd := wt_if hd c24
        refine lv_iload_n (pc := 28) hx hb dX11_number_28 rfl (lv_at hl 1 rfl) ?_
        refine lv_iconst (pc := 29) (v := -1) hx hb dX11_number_29 (by decide) ?_
        obtain ⟨w25, hj26, hq27⟩ := wt_bd_o hd
        have hX28 : ∀ w25_ : Unit, (Sum.inl w25_ : (Unit) ⊕ _) = w25 → ∀ (H : Heap) (locs : List Loc) (ls : Array Slot), Hw G A v4.2.1 H → va_S A s_.heap H locs → lv_has ls 4 [(0, .ref o_), (1, .int a0), (2, .ref (τ.2)), (3, .int v4.1)] → W p_ l e_ (headSpec (ws_ yX11_number cX11_number 4 (some (.object "WoolThreads$Great"))) ({ frames := 8, cells := 30, slots := 1300, locals := 177 })).room s_ m_ ([.ref o_, .int a0] : List Value).toArray below_ meth_ c_ H locs v4.2.2.1 v4.2.2.2 (MQ below_ (hQr G out_.1 out_.2 A) ([.ref o_, .int a0] : List Value).toArray s_ 30 1300 A) (F0 m_ 38 ls []) := by
          intro w25_ hw_
          have hd := wt_rs_l hw_ hq27
          clear hj26 hq27
          intro H locs ls hW hS hl
          refine lv_aload_n (pc := 38) hx hb dX11_number_38 rfl (lv_at hl 0 rfl) ?_
          refine lv_aload_n (pc := 39) hx hb dX11_number_39 rfl (lv_at hl 2 rfl) ?_
          refine lv_aload_n (pc := 40) hx hb dX11_number_40 rfl (lv_at hl 0 rfl) ?_
          obtain ⟨ad32, h33, hd⟩ := wt_bd_o hd
          refine hr_get (pc := 41) hx hb hts hown hK hW (hgA_o h33) hf_8_6 (fun _ h => h) q1041 dX11_number_41 ?_
          obtain ⟨ad34, h35, hd⟩ := wt_bd_o hd
          refine hr_getN (pc := 44) hx hb hts hown hK hT hW (hgA_o h35) hf_0_1 (fun _ h => h) q537 dX11_number_44 ?_
          obtain ⟨ad36, h37, hd⟩ := wt_bd_o hd
          refine hr_getN (pc := 47) hx hb hts hown hK hT hW (hgA_o h37) hf_2_0 (fun _ h => h) q514 dX11_number_47 ?_
          refine lv_iload_n (pc := 50) hx hb dX11_number_50 rfl (lv_at hl 3 rfl) ?_
          obtain ⟨h38, hd⟩ := wt_ck_o hd
          obtain ⟨w39, hc40, hd⟩ := wt_bd_o hd
          obtain ⟨h41, hd⟩ := wt_ck_o hd
          refine kJ2_get (pc := 51) hx hb hml hown hts hC hW hS h38 hc40 hl.1 (Nat.le_of_ble_eq_true rfl) ⟨Nat.le_of_ble_eq_true rfl, Nat.le_of_ble_eq_true rfl⟩ ⟨h41.1, h41.2⟩ q1096 dX11_number_51 (fun H locs hW hS => ?_)
          obtain ⟨h42, hd⟩ := wt_ck_o hd
          refine hr_cast (pc := 54) (ci := 10) hx hb hts hown hK hW h42 rfl rfl q1261 dX11_number_54 ?_
          obtain ⟨h43, hd⟩ := wt_ck_o hd
          obtain ⟨w44, hc45, hd⟩ := wt_bd_o hd
          obtain ⟨h46, hd⟩ := wt_ck_o hd
          refine kX11_times (pc := 57) hx hb hml hown hts hC hW hS h43 hc45 hl.1 (Nat.le_of_ble_eq_true rfl) ⟨Nat.le_of_ble_eq_true rfl, Nat.le_of_ble_eq_true rfl⟩ ⟨h46.1, h46.2⟩ q1296 dX11_number_57 (fun H locs hW hS => ?_)
          obtain ⟨n47, en47, hd⟩ := wt_lt_o hd
          refine lv_iinc (pc := 60) (k := 3) (v := n47) (lv' := [(3, .int n47), (0, .ref o_), (1, .int a0), (2, .ref (τ.2))]) hx hb dX11_number_60 hl rfl en47.symm (by decide) rfl (fun ls hl => ?_)
          refine lv_goto (pc := 63) (tgt := 11) hx hb dX11_number_63 (by decide) ?_
          exact ih10 _ (wt_again hd hk9) _ _ _ hW hS (lv_sub hl [1, 2, 3, 0] rfl)
        have hd := hj26
        refine lv_icmp_eq (pc := 30) (tgt := 38) hx hb dX11_number_30 (by decide) (fun c29 => ?_) (fun c29 => ?_)
        · have hd := wt_it hd c29
          exact hX28 () (Option.some.inj hd) _ _ _ hW hS hl
        · have hd := wt_if hd c29
          refine lv_iload_n (pc := 33) hx hb dX11_number_33 rfl (lv_at hl 1 rfl) ?_
          refine lv_iload_n (pc := 34) hx hb dX11_number_34 rfl (lv_at hl 3 rfl) ?_
          refine lv_icmp_ne (pc := 35) (tgt := 60) hx hb dX11_number_35 (by decide) (fun c30 => ?_) (fun c30 => ?_)
          · have hd := wt_if hd c30
            obtain ⟨n31, en31, hd⟩ := wt_lt_o hd
            refine lv_iinc (pc := 60) (k := 3) (v := n31) (lv' := [(3, .int n31), (0, .ref o_), (1, .int a0), (2, .ref (τ.2))]) hx hb dX11_number_60 hl rfl en31.symm (by decide) rfl (fun ls hl => ?_)
            refine lv_goto (pc := 63) (tgt := 11) hx hb dX11_number_63 (by decide) ?_
            have hd := wt_rs_r (Option.some.inj hd) hq27
            exact ih10 _ (wt_again hd hk9) _ _ _ hW hS (lv_sub hl [1, 2, 3, 0] rfl)
          · have hd := wt_it hd c30
            exact hX28 () (Option.some.inj hd) _ _ _ hW hS hl
  obtain ⟨k12, hL6⟩ := wt_whC_o hL6
  exact hI13 k12 _ hL6 _ _ _ hW hS (lv_sub hl [2, 3, 1, 0] rfl)
theorem kX11_number {p : Program} {l : Launch} {e : Env} {R : Room} {s : State} {m : MethodId} {args : Array Value} {below : List Frame} {meth : Method} {c : Code} {H : Heap} {locs : List Loc} {cells slots : Nat} {Q : State → Prop} {cc : ByteArray} {pc : Nat} {ls : Array Slot} {rest : List Value} {nL : Nat} {own : String} {index : Nat} {G : HG} {A : Nat → Prop} {τ : HP} {o_ : Nat} {a0 : Int32} {out_ : Nat × HP} (hx : p.tables.exec = Jvm.exec) (hb : c.code = cc) (hml : c.maxLocals = nL) (hown : s.vm.findClass own = some m.cls) (hts : ∀ w ∈ lw_all, w.before args s = true) (hC : Hcx G A s) (hW : Hw G A τ H) (hS : va_S A s.heap H locs) (hrc : hcl τ o_ = some 8) (hd : eX11_number τ o_ a0 = some out_) (hsz : ls.size = nL) (hrm : (rest.map fun v => v.category).sum ≤ 8) (hR : 9 ≤ R.frames ∧ 200 ≤ R.locals) (hcs : (cells + 30) ≤ R.cells ∧ (slots + 1300) ≤ R.slots) (hlk : Cond.methodLink own index yX11_number ∈ lw_all) (hdg : decode cc pc = .ok (.invokevirtual index, 3)) (kk : ∀ (H1 : Heap) (locs1 : List Loc), Hw G A out_.2 H1 → va_S A s.heap H1 locs1 → W p l e R s m args below meth c H1 locs1 (cells + 30) (slots + 1300) Q (F0 m (pc + 3) ls (.ref out_.1 :: rest))) : W p l e R s m args below meth c H locs cells slots Q (F0 m pc ls (.int a0 :: .ref o_ :: rest)) := by
  refine va_callr (va_runV (As := [.int a0]) (rest := rest) ⟨hx, hb, hml, hown, hts⟩ (wX11_number l hd) (cwV 1 hts (lw_V hlk q1276 q1277 q97 q1278) rfl rfl rfl (by decide +kernel) hR) (hr_preV hC hW hS hrc rfl rfl) rfl rfl hsz rfl (lv_room hrm) hdg hcs) hS (fun _ _ h => h) (fun _ h => h) (fun u ra t H1 locs1 ht hvm hp hB hz hk hS1 => ?_)
  have hp : ra = out_.1 := hB.1
  subst hp
  have hW1 : Hw G A out_.2 t.heap := hB.2
  rw [ht] at hW1
  exact kk H1 locs1 hW1 hS1
