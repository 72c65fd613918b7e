/-! the law's wrappers (by gen/comp.py) -/
set_option maxRecDepth 100000

noncomputable def eX0_law (lit_ : Nat → Nat) (τ : HP) (a0 : Nat) (a1 : Int32) (a2 : Nat) : Option (Int32 × HH) :=
  wt_ck (hcl τ a0 = some 0) <| wt_bd (eX1_law lit_ τ a0 a1) fun w2 => wt_rs w2 (fun o4 => wt_bd (haL o4.2 a2 4) fun z5 => wt_ck (vp_in (0 : Int32) z5.1) <| wt_lt (hst o4.2 a2 (.inl (4, z5.1, .inr (.inl (vp_updL z5.2 (0 : Int32).toNatClampNeg (Int32.toInt64 o4.1)))))) fun τ8 => some ((0 : Int32), τ8.1)) (fun x_ => if x_.1 = 100 then (some ((1 : Int32), x_.2.2.1)) else (none))
set_option maxHeartbeats 4000000 in
theorem wX0_law (l : Launch) (hfl : l.stackTraces = false) {G : HG} {A : Nat → Prop} {τ : HP} {a0 : Nat} {a1 : Int32} {a2 : Nat} {out_ : Int32 × HH} (hd : eX0_law G.2.2 τ a0 a1 a2 = some out_) : vx_Met l yX0_law (wsW_ yX0_law cX0_law 4 (some .int) [(0, 9, 12, 13)]) ({ frames := 10, cells := 262, slots := 3010, locals := 240 }) (hPc G A τ [.ref a0, .int a1, .ref a2]) (hXi G A (fun r u => (r, u.1) = out_)) (hXX G A (Sum.inl out_ : (Int32 × HH) ⊕ (Nat × Nat × HP))) 262 3010 A := by
  refine vx_ofWH (hh := [(0, 9, 12, 13)]) (cc := cX0_law) (maxL := 4) (ret := (some .int)) (by decide) rfl ?_
  intro p_ e_ s_ m_ args_ below_ meth_ c_ s₁_ B hml hv
  obtain ⟨rfl, hW, hC⟩ := hv
  have hx := B.exec
  have hb := B.bytes
  have hr := B.returns
  have hts := atoms_spec (ws := (wsW_ yX0_law cX0_law 4 (some .int) [(0, 9, 12, 13)])) B.pre
  have hts : ∀ w ∈ lw_all, w.before _ s_ = true := fun w h => hts w (List.mem_cons_of_mem _ h)
  have hown : s_.vm.findClass RX0 = some m_.cls := findClass_of_methodNamed B.named
  have htab : c_.exceptionTable.toList = tableOf [(0, 9, 12, 13)] := vx_table (x := yX0_law) B (hts _ q669)
  have hlocks := B.notSynchronized
  have hK := hC.1
  have hT := hC.2.1
  have hL := hC.2.2.1
  have hZ := hC.2.2.2.2.1
  have hA := hC.2.2.2.2.2
  have hS : va_S A s_.heap s_.heap [] := va_S.rf
  have hl := lv_entry ([.ref a0, .int a1, .ref a2]) (n := 4) (Nat.le_of_ble_eq_true rfl)
  rw [lg_entry_eq]
  generalize (lg_sl ([.ref a0, .int a1, .ref a2]) ++ List.replicate (4 - (lg_sl ([.ref a0, .int a1, .ref a2])).length) Slot.unset).toArray = ls at hl ⊢
  have hl : lv_has ls 4 [(0, .ref a0), (1, .int a1), (2, .ref a2)] := hl
  unfold eX0_law at hd
  refine lv_aload_n (pc := 0) hx hb dX0_law_0 rfl (lv_at hl 2 rfl) ?_
  refine lv_iconst (pc := 1) (v := 0) hx hb dX0_law_1 (by decide) ?_
  refine lv_aload_n (pc := 2) hx hb dX0_law_2 rfl (lv_at hl 0 rfl) ?_
  refine lv_iload_n (pc := 3) hx hb dX0_law_3 rfl (lv_at hl 1 rfl) ?_
  obtain ⟨h1, hd⟩ := wt_ck_o hd
  obtain ⟨w2, hc3, hd⟩ := wt_bd_o hd
  refine kX1_law (pc := 4) hfl hx hb hml hown hts hC hW hS h1 hc3 hl.1 (Nat.le_of_ble_eq_true rfl) ⟨Nat.le_of_ble_eq_true rfl, Nat.le_of_ble_eq_true rfl⟩ ⟨(Nat.le_of_ble_eq_true rfl), (Nat.le_of_ble_eq_true rfl)⟩ q671 dX0_law_4 (fun x_ hx_ E_ ce_ q9_ H locs hXB hS hce hvn hfc => ?_) (fun o4 ho_ H locs hW hS => ?_)
  · have hd := wt_rs_r hx_ hd
    by_cases c9 : x_.1 = 100
    · have hd := wt_it hd c9
      refine hx_catchJ (name := "java/lang/IllegalArgumentException") 100 hown [] (⟨0, 9, 12, 13⟩ : ExceptionTableEntry) [] (htab.trans rfl) c9 (by decide) rfl (fun y hy => by cases hy) (by decide) (by decide) (hts _ q670) (va_Nw.use rfl (hC.2.1.1 _ (hw_of q187 rfl))) hXB hce hvn hfc (fun hW => ?_)
      refine lv_astore_n (pc := 12) (lv' := [(3, .ref q9_), (0, .ref a0), (1, .int a1), (2, .ref a2)]) hx hb dX0_law_12 rfl hl (by decide) rfl (fun ls hl => ?_)
      refine lv_iconst (pc := 13) (v := 1) hx hb dX0_law_13 (by decide) ?_
      refine vx_ret ?_
      exact hx_iret (τ := (x_.2.2.1, H.size)) hx hb hr rfl hlocks (Option.some.inj hd) hW hS dX0_law_14 (Nat.le_of_ble_eq_true rfl) (Nat.le_of_ble_eq_true rfl)
    have hd := wt_if hd c9
    exact absurd hd (by intro h; cases h)
  · have hd := wt_rs_l ho_ hd
    refine lv_i2l (pc := 7) hx hb dX0_law_7 rfl ?_
    obtain ⟨z5, h6, hd⟩ := wt_bd_o hd
    obtain ⟨h7, hd⟩ := wt_ck_o hd
    obtain ⟨τ8, eτ8, hd⟩ := wt_lt_o hd
    refine hr_last (pc := 8) hx hb hK hW hS h6 h7 eτ8 dX0_law_8 (fun H locs hW hS => ?_)
    refine lv_goto (pc := 9) (tgt := 15) hx hb dX0_law_9 (by decide) ?_
    refine lv_iconst (pc := 15) (v := 0) hx hb dX0_law_15 (by decide) ?_
    refine vx_ret ?_
    exact hx_iret (τ := τ8) hx hb hr rfl hlocks (Option.some.inj hd) hW hS dX0_law_16 (Nat.le_of_ble_eq_true rfl) (Nat.le_of_ble_eq_true rfl)
theorem kX0_law {p : Program} {l : Launch} {e : Env} {R : Room} {s : State} {m : MethodId} {args : Array Value} {below : List Frame} {meth : Method} {c : Code} {H : Heap} {locs : List Loc} {cells slots : Nat} {Q : State → Prop} {cc : ByteArray} {pc : Nat} {ls : Array Slot} {rest : List Value} {nL : Nat} {own : String} {index : Nat} {G : HG} {A : Nat → Prop} {τ : HP} {a0 : Nat} {a1 : Int32} {a2 : Nat} {out_ : Int32 × HH} (hfl : l.stackTraces = false) (hx : p.tables.exec = Jvm.exec) (hb : c.code = cc) (hml : c.maxLocals = nL) (hown : s.vm.findClass own = some m.cls) (hts : ∀ w ∈ lw_all, w.before args s = true) (hC : Hcx G A s) (hW : Hw G A τ H) (hS : va_S A s.heap H locs) (hd : eX0_law G.2.2 τ a0 a1 a2 = some out_) (hsz : ls.size = nL) (hrm : (rest.map fun v => v.category).sum ≤ 8) (hR : 11 ≤ R.frames ∧ 263 ≤ R.locals) (hcs : (cells + 262) ≤ R.cells ∧ (slots + 3010) ≤ R.slots) (hlk : Cond.methodLink own index yX0_law ∈ lw_all) (hdg : decode cc pc = .ok (.invokestatic index, 3)) (kk : ∀ (u_ : HP) (H1 : Heap) (locs1 : List Loc), u_.1 = out_.2 → Hw G A u_ H1 → va_S A s.heap H1 locs1 → W p l e R s m args below meth c H1 locs1 (cells + 262) (slots + 3010) Q (F0 m (pc + 3) ls (.int out_.1 :: rest))) : W p l e R s m args below meth c H locs cells slots Q (F0 m pc ls (.ref a2 :: .int a1 :: .ref a0 :: rest)) := by
  refine vx_calli (vx_runSX (As := [.ref a0, .int a1, .ref a2]) (rest := rest) ⟨hx, hb, hml, hown, hts⟩ (wX0_law l hfl hd) (vx_cwSW 3 hts (lw_SW hlk q668 q65 q669) rfl rfl rfl (by decide +kernel) hR) (hr_preS hC hW hS) rfl rfl hsz rfl (lv_room hrm) hdg hcs) hS (fun _ _ h => h) (fun _ h => h) (fun _ _ h => h) (fun E ce q9 u t H1 locs1 ht hvm hp hB hz hk hS1 hce hvn hfc => by cases hp) (fun r u t H1 locs1 ht hvm hp hB hz hk hS1 => ?_)
  have hp : (r, u.1) = out_ := hp
  subst hp
  have hW1 : Hw G A u t.heap := hB
  rw [ht] at hW1
  exact kk u H1 locs1 rfl hW1 hS1
noncomputable def eX0_story (lit_ : Nat → Nat) (τ : HP) (a0 : Nat) (a1 : Int32) (a2 : Nat) : Option (Int32 × HH) :=
  wt_ck (hcl τ a0 = some 0) <| wt_bd (eX1_story lit_ τ a0 a1) fun w2 => wt_rs w2 (fun o4 => wt_bd (haL o4.2 a2 4) fun z5 => wt_ck (vp_in (0 : Int32) z5.1) <| wt_lt (hst o4.2 a2 (.inl (4, z5.1, .inr (.inl (vp_updL z5.2 (0 : Int32).toNatClampNeg (Int32.toInt64 o4.1)))))) fun τ8 => some ((0 : Int32), τ8.1)) (fun x_ => if x_.1 = 100 then (some ((1 : Int32), x_.2.2.1)) else (none))
set_option maxHeartbeats 4000000 in
theorem wX0_story (l : Launch) (hfl : l.stackTraces = false) {G : HG} {A : Nat → Prop} {τ : HP} {a0 : Nat} {a1 : Int32} {a2 : Nat} {out_ : Int32 × HH} (hd : eX0_story G.2.2 τ a0 a1 a2 = some out_) : vx_Met l yX0_story (wsW_ yX0_story cX0_story 4 (some .int) [(0, 9, 12, 13)]) ({ frames := 12, cells := 503, slots := 6042, locals := 279 }) (hPc G A τ [.ref a0, .int a1, .ref a2]) (hXi G A (fun r u => (r, u.1) = out_)) (hXX G A (Sum.inl out_ : (Int32 × HH) ⊕ (Nat × Nat × HP))) 503 6042 A := by
  refine vx_ofWH (hh := [(0, 9, 12, 13)]) (cc := cX0_story) (maxL := 4) (ret := (some .int)) (by decide) rfl ?_
  intro p_ e_ s_ m_ args_ below_ meth_ c_ s₁_ B hml hv
  obtain ⟨rfl, hW, hC⟩ := hv
  have hx := B.exec
  have hb := B.bytes
  have hr := B.returns
  have hts := atoms_spec (ws := (wsW_ yX0_story cX0_story 4 (some .int) [(0, 9, 12, 13)])) B.pre
  have hts : ∀ w ∈ lw_all, w.before _ s_ = true := fun w h => hts w (List.mem_cons_of_mem _ h)
  have hown : s_.vm.findClass RX0 = some m_.cls := findClass_of_methodNamed B.named
  have htab : c_.exceptionTable.toList = tableOf [(0, 9, 12, 13)] := vx_table (x := yX0_story) B (hts _ q879)
  have hlocks := B.notSynchronized
  have hK := hC.1
  have hT := hC.2.1
  have hL := hC.2.2.1
  have hZ := hC.2.2.2.2.1
  have hA := hC.2.2.2.2.2
  have hS : va_S A s_.heap s_.heap [] := va_S.rf
  have hl := lv_entry ([.ref a0, .int a1, .ref a2]) (n := 4) (Nat.le_of_ble_eq_true rfl)
  rw [lg_entry_eq]
  generalize (lg_sl ([.ref a0, .int a1, .ref a2]) ++ List.replicate (4 - (lg_sl ([.ref a0, .int a1, .ref a2])).length) Slot.unset).toArray = ls at hl ⊢
  have hl : lv_has ls 4 [(0, .ref a0), (1, .int a1), (2, .ref a2)] := hl
  unfold eX0_story at hd
  refine lv_aload_n (pc := 0) hx hb dX0_story_0 rfl (lv_at hl 2 rfl) ?_
  refine lv_iconst (pc := 1) (v := 0) hx hb dX0_story_1 (by decide) ?_
  refine lv_aload_n (pc := 2) hx hb dX0_story_2 rfl (lv_at hl 0 rfl) ?_
  refine lv_iload_n (pc := 3) hx hb dX0_story_3 rfl (lv_at hl 1 rfl) ?_
  obtain ⟨h1, hd⟩ := wt_ck_o hd
  obtain ⟨w2, hc3, hd⟩ := wt_bd_o hd
  refine kX1_story (pc := 4) hfl hx hb hml hown hts hC hW hS h1 hc3 hl.1 (Nat.le_of_ble_eq_true rfl) ⟨Nat.le_of_ble_eq_true rfl, Nat.le_of_ble_eq_true rfl⟩ ⟨(Nat.le_of_ble_eq_true rfl), (Nat.le_of_ble_eq_true rfl)⟩ q880 dX0_story_4 (fun x_ hx_ E_ ce_ q9_ H locs hXB hS hce hvn hfc => ?_) (fun o4 ho_ H locs hW hS => ?_)
  · have hd := wt_rs_r hx_ hd
    by_cases c9 : x_.1 = 100
    · have hd := wt_it hd c9
      refine hx_catchJ (name := "java/lang/IllegalArgumentException") 100 hown [] (⟨0, 9, 12, 13⟩ : ExceptionTableEntry) [] (htab.trans rfl) c9 (by decide) rfl (fun y hy => by cases hy) (by decide) (by decide) (hts _ q670) (va_Nw.use rfl (hC.2.1.1 _ (hw_of q187 rfl))) hXB hce hvn hfc (fun hW => ?_)
      refine lv_astore_n (pc := 12) (lv' := [(3, .ref q9_), (0, .ref a0), (1, .int a1), (2, .ref a2)]) hx hb dX0_story_12 rfl hl (by decide) rfl (fun ls hl => ?_)
      refine lv_iconst (pc := 13) (v := 1) hx hb dX0_story_13 (by decide) ?_
      refine vx_ret ?_
      exact hx_iret (τ := (x_.2.2.1, H.size)) hx hb hr rfl hlocks (Option.some.inj hd) hW hS dX0_story_14 (Nat.le_of_ble_eq_true rfl) (Nat.le_of_ble_eq_true rfl)
    have hd := wt_if hd c9
    exact absurd hd (by intro h; cases h)
  · have hd := wt_rs_l ho_ hd
    refine lv_i2l (pc := 7) hx hb dX0_story_7 rfl ?_
    obtain ⟨z5, h6, hd⟩ := wt_bd_o hd
    obtain ⟨h7, hd⟩ := wt_ck_o hd
    obtain ⟨τ8, eτ8, hd⟩ := wt_lt_o hd
    refine hr_last (pc := 8) hx hb hK hW hS h6 h7 eτ8 dX0_story_8 (fun H locs hW hS => ?_)
    refine lv_goto (pc := 9) (tgt := 15) hx hb dX0_story_9 (by decide) ?_
    refine lv_iconst (pc := 15) (v := 0) hx hb dX0_story_15 (by decide) ?_
    refine vx_ret ?_
    exact hx_iret (τ := τ8) hx hb hr rfl hlocks (Option.some.inj hd) hW hS dX0_story_16 (Nat.le_of_ble_eq_true rfl) (Nat.le_of_ble_eq_true rfl)
theorem kX0_story {p : Program} {l : Launch} {e : Env} {R : Room} {s : State} {m : MethodId} {args : Array Value} {below : List Frame} {meth : Method} {c : Code} {H : Heap} {locs : List Loc} {cells slots : Nat} {Q : State → Prop} {cc : ByteArray} {pc : Nat} {ls : Array Slot} {rest : List Value} {nL : Nat} {own : String} {index : Nat} {G : HG} {A : Nat → Prop} {τ : HP} {a0 : Nat} {a1 : Int32} {a2 : Nat} {out_ : Int32 × HH} (hfl : l.stackTraces = false) (hx : p.tables.exec = Jvm.exec) (hb : c.code = cc) (hml : c.maxLocals = nL) (hown : s.vm.findClass own = some m.cls) (hts : ∀ w ∈ lw_all, w.before args s = true) (hC : Hcx G A s) (hW : Hw G A τ H) (hS : va_S A s.heap H locs) (hd : eX0_story G.2.2 τ a0 a1 a2 = some out_) (hsz : ls.size = nL) (hrm : (rest.map fun v => v.category).sum ≤ 8) (hR : 13 ≤ R.frames ∧ 302 ≤ R.locals) (hcs : (cells + 503) ≤ R.cells ∧ (slots + 6042) ≤ R.slots) (hlk : Cond.methodLink own index yX0_story ∈ lw_all) (hdg : decode cc pc = .ok (.invokestatic index, 3)) (kk : ∀ (u_ : HP) (H1 : Heap) (locs1 : List Loc), u_.1 = out_.2 → Hw G A u_ H1 → va_S A s.heap H1 locs1 → W p l e R s m args below meth c H1 locs1 (cells + 503) (slots + 6042) Q (F0 m (pc + 3) ls (.int out_.1 :: rest))) : W p l e R s m args below meth c H locs cells slots Q (F0 m pc ls (.ref a2 :: .int a1 :: .ref a0 :: rest)) := by
  refine vx_calli (vx_runSX (As := [.ref a0, .int a1, .ref a2]) (rest := rest) ⟨hx, hb, hml, hown, hts⟩ (wX0_story l hfl hd) (vx_cwSW 3 hts (lw_SW hlk q878 q65 q879) rfl rfl rfl (by decide +kernel) hR) (hr_preS hC hW hS) rfl rfl hsz rfl (lv_room hrm) hdg hcs) hS (fun _ _ h => h) (fun _ h => h) (fun _ _ h => h) (fun E ce q9 u t H1 locs1 ht hvm hp hB hz hk hS1 hce hvn hfc => by cases hp) (fun r u t H1 locs1 ht hvm hp hB hz hk hS1 => ?_)
  have hp : (r, u.1) = out_ := hp
  subst hp
  have hW1 : Hw G A u t.heap := hB
  rw [ht] at hW1
  exact kk u H1 locs1 rfl hW1 hS1
noncomputable def eX0_sheds (τ : HP) (a0 : Nat) (a1 : Int32) (a2 : Int32) (a3 : Nat) : Option (Int32 × HH) :=
  wt_ck (hcl τ a0 = some 0) <| wt_bd (eX1_sheds τ a0 a1 a2) fun w2 => wt_rs w2 (fun o4 => wt_bd (haL τ a3 4) fun z5 => wt_ck (vp_in (0 : Int32) z5.1) <| wt_lt (hst τ a3 (.inl (4, z5.1, .inr (.inl (vp_updL z5.2 (0 : Int32).toNatClampNeg (Int32.toInt64 o4)))))) fun τ8 => some ((0 : Int32), τ8.1)) (fun x_ => if x_.1 = 100 then (some ((1 : Int32), x_.2.2.1)) else (none))
set_option maxHeartbeats 4000000 in
theorem wX0_sheds (l : Launch) (hfl : l.stackTraces = false) {G : HG} {A : Nat → Prop} {τ : HP} {a0 : Nat} {a1 : Int32} {a2 : Int32} {a3 : Nat} {out_ : Int32 × HH} (hd : eX0_sheds τ a0 a1 a2 a3 = some out_) : vx_Met l yX0_sheds (wsW_ yX0_sheds cX0_sheds 5 (some .int) [(0, 10, 13, 13)]) ({ frames := 8, cells := 1, slots := 6, locals := 152 }) (hPc G A τ [.ref a0, .int a1, .int a2, .ref a3]) (hXi G A (fun r u => (r, u.1) = out_)) (hXX G A (Sum.inl out_ : (Int32 × HH) ⊕ (Nat × Nat × HP))) 1 6 A := by
  refine vx_ofWH (hh := [(0, 10, 13, 13)]) (cc := cX0_sheds) (maxL := 5) (ret := (some .int)) (by decide) rfl ?_
  intro p_ e_ s_ m_ args_ below_ meth_ c_ s₁_ B hml hv
  obtain ⟨rfl, hW, hC⟩ := hv
  have hx := B.exec
  have hb := B.bytes
  have hr := B.returns
  have hts := atoms_spec (ws := (wsW_ yX0_sheds cX0_sheds 5 (some .int) [(0, 10, 13, 13)])) B.pre
  have hts : ∀ w ∈ lw_all, w.before _ s_ = true := fun w h => hts w (List.mem_cons_of_mem _ h)
  have hown : s_.vm.findClass RX0 = some m_.cls := findClass_of_methodNamed B.named
  have htab : c_.exceptionTable.toList = tableOf [(0, 10, 13, 13)] := vx_table (x := yX0_sheds) B (hts _ q973)
  have hlocks := B.notSynchronized
  have hK := hC.1
  have hT := hC.2.1
  have hL := hC.2.2.1
  have hZ := hC.2.2.2.2.1
  have hA := hC.2.2.2.2.2
  have hS : va_S A s_.heap s_.heap [] := va_S.rf
  have hl := lv_entry ([.ref a0, .int a1, .int a2, .ref a3]) (n := 5) (Nat.le_of_ble_eq_true rfl)
  rw [lg_entry_eq]
  generalize (lg_sl ([.ref a0, .int a1, .int a2, .ref a3]) ++ List.replicate (5 - (lg_sl ([.ref a0, .int a1, .int a2, .ref a3])).length) Slot.unset).toArray = ls at hl ⊢
  have hl : lv_has ls 5 [(0, .ref a0), (1, .int a1), (2, .int a2), (3, .ref a3)] := hl
  unfold eX0_sheds at hd
  refine lv_aload_n (pc := 0) hx hb dX0_sheds_0 rfl (lv_at hl 3 rfl) ?_
  refine lv_iconst (pc := 1) (v := 0) hx hb dX0_sheds_1 (by decide) ?_
  refine lv_aload_n (pc := 2) hx hb dX0_sheds_2 rfl (lv_at hl 0 rfl) ?_
  refine lv_iload_n (pc := 3) hx hb dX0_sheds_3 rfl (lv_at hl 1 rfl) ?_
  refine lv_iload_n (pc := 4) hx hb dX0_sheds_4 rfl (lv_at hl 2 rfl) ?_
  obtain ⟨h1, hd⟩ := wt_ck_o hd
  obtain ⟨w2, hc3, hd⟩ := wt_bd_o hd
  refine kX1_sheds (pc := 5) hfl hx hb hml hown hts hC hW hS h1 hc3 hl.1 (Nat.le_of_ble_eq_true rfl) ⟨Nat.le_of_ble_eq_true rfl, Nat.le_of_ble_eq_true rfl⟩ ⟨(Nat.le_of_ble_eq_true rfl), (Nat.le_of_ble_eq_true rfl)⟩ q974 dX0_sheds_5 (fun x_ hx_ E_ ce_ q9_ H locs hXB hS hce hvn hfc => ?_) (fun o4 ho_ H locs hW hS => ?_)
  · have hd := wt_rs_r hx_ hd
    by_cases c9 : x_.1 = 100
    · have hd := wt_it hd c9
      refine hx_catchJ (name := "java/lang/IllegalArgumentException") 100 hown [] (⟨0, 10, 13, 13⟩ : ExceptionTableEntry) [] (htab.trans rfl) c9 (by decide) rfl (fun y hy => by cases hy) (by decide) (by decide) (hts _ q670) (va_Nw.use rfl (hC.2.1.1 _ (hw_of q187 rfl))) hXB hce hvn hfc (fun hW => ?_)
      refine lv_astore (pc := 13) (lv' := [(4, .ref q9_), (0, .ref a0), (1, .int a1), (2, .int a2), (3, .ref a3)]) hx hb dX0_sheds_13 hl (by decide) rfl (fun ls hl => ?_)
      refine lv_iconst (pc := 15) (v := 1) hx hb dX0_sheds_15 (by decide) ?_
      refine vx_ret ?_
      exact hx_iret (τ := (x_.2.2.1, H.size)) hx hb hr rfl hlocks (Option.some.inj hd) hW hS dX0_sheds_16 (Nat.le_of_ble_eq_true rfl) (Nat.le_of_ble_eq_true rfl)
    have hd := wt_if hd c9
    exact absurd hd (by intro h; cases h)
  · have hd := wt_rs_l ho_ hd
    refine lv_i2l (pc := 8) hx hb dX0_sheds_8 rfl ?_
    obtain ⟨z5, h6, hd⟩ := wt_bd_o hd
    obtain ⟨h7, hd⟩ := wt_ck_o hd
    obtain ⟨τ8, eτ8, hd⟩ := wt_lt_o hd
    refine hr_last (pc := 9) hx hb hK hW hS h6 h7 eτ8 dX0_sheds_9 (fun H locs hW hS => ?_)
    refine lv_goto (pc := 10) (tgt := 17) hx hb dX0_sheds_10 (by decide) ?_
    refine lv_iconst (pc := 17) (v := 0) hx hb dX0_sheds_17 (by decide) ?_
    refine vx_ret ?_
    exact hx_iret (τ := τ8) hx hb hr rfl hlocks (Option.some.inj hd) hW hS dX0_sheds_18 (Nat.le_of_ble_eq_true rfl) (Nat.le_of_ble_eq_true rfl)
theorem kX0_sheds {p : Program} {l : Launch} {e : Env} {R : Room} {s : State} {m : MethodId} {args : Array Value} {below : List Frame} {meth : Method} {c : Code} {H : Heap} {locs : List Loc} {cells slots : Nat} {Q : State → Prop} {cc : ByteArray} {pc : Nat} {ls : Array Slot} {rest : List Value} {nL : Nat} {own : String} {index : Nat} {G : HG} {A : Nat → Prop} {τ : HP} {a0 : Nat} {a1 : Int32} {a2 : Int32} {a3 : Nat} {out_ : Int32 × HH} (hfl : l.stackTraces = false) (hx : p.tables.exec = Jvm.exec) (hb : c.code = cc) (hml : c.maxLocals = nL) (hown : s.vm.findClass own = some m.cls) (hts : ∀ w ∈ lw_all, w.before args s = true) (hC : Hcx G A s) (hW : Hw G A τ H) (hS : va_S A s.heap H locs) (hd : eX0_sheds τ a0 a1 a2 a3 = some out_) (hsz : ls.size = nL) (hrm : (rest.map fun v => v.category).sum ≤ 8) (hR : 9 ≤ R.frames ∧ 176 ≤ R.locals) (hcs : (cells + 1) ≤ R.cells ∧ (slots + 6) ≤ R.slots) (hlk : Cond.methodLink own index yX0_sheds ∈ lw_all) (hdg : decode cc pc = .ok (.invokestatic index, 3)) (kk : ∀ (u_ : HP) (H1 : Heap) (locs1 : List Loc), u_.1 = out_.2 → Hw G A u_ H1 → va_S A s.heap H1 locs1 → W p l e R s m args below meth c H1 locs1 (cells + 1) (slots + 6) Q (F0 m (pc + 3) ls (.int out_.1 :: rest))) : W p l e R s m args below meth c H locs cells slots Q (F0 m pc ls (.ref a3 :: .int a2 :: .int a1 :: .ref a0 :: rest)) := by
  refine vx_calli (vx_runSX (As := [.ref a0, .int a1, .int a2, .ref a3]) (rest := rest) ⟨hx, hb, hml, hown, hts⟩ (wX0_sheds l hfl hd) (vx_cwSW 4 hts (lw_SW hlk q972 q65 q973) rfl rfl rfl (by decide +kernel) hR) (hr_preS hC hW hS) rfl rfl hsz rfl (lv_room hrm) hdg hcs) hS (fun _ _ h => h) (fun _ h => h) (fun _ _ h => h) (fun E ce q9 u t H1 locs1 ht hvm hp hB hz hk hS1 hce hvn hfc => by cases hp) (fun r u t H1 locs1 ht hvm hp hB hz hk hS1 => ?_)
  have hp : (r, u.1) = out_ := hp
  subst hp
  have hW1 : Hw G A u t.heap := hB
  rw [ht] at hW1
  exact kk u H1 locs1 rfl hW1 hS1
noncomputable def eX0_told (τ : HP) (a0 : Nat) (a1 : Int32) (a2 : Int32) (a3 : Nat) : Option (Int32 × HH) :=
  wt_ck (hcl τ a0 = some 0) <| wt_bd (eX1_told τ a0 a1 a2) fun w2 => wt_rs w2 (fun o4 => wt_bd (haL τ a3 4) fun z5 => wt_ck (vp_in (0 : Int32) z5.1) <| wt_lt (hst τ a3 (.inl (4, z5.1, .inr (.inl (vp_updL z5.2 (0 : Int32).toNatClampNeg (Int32.toInt64 o4)))))) fun τ8 => some ((0 : Int32), τ8.1)) (fun x_ => if x_.1 = 100 then (some ((1 : Int32), x_.2.2.1)) else (none))
set_option maxHeartbeats 4000000 in
theorem wX0_told (l : Launch) (hfl : l.stackTraces = false) {G : HG} {A : Nat → Prop} {τ : HP} {a0 : Nat} {a1 : Int32} {a2 : Int32} {a3 : Nat} {out_ : Int32 × HH} (hd : eX0_told τ a0 a1 a2 a3 = some out_) : vx_Met l yX0_told (wsW_ yX0_told cX0_told 5 (some .int) [(0, 10, 13, 13)]) ({ frames := 8, cells := 1, slots := 6, locals := 152 }) (hPc G A τ [.ref a0, .int a1, .int a2, .ref a3]) (hXi G A (fun r u => (r, u.1) = out_)) (hXX G A (Sum.inl out_ : (Int32 × HH) ⊕ (Nat × Nat × HP))) 1 6 A := by
  refine vx_ofWH (hh := [(0, 10, 13, 13)]) (cc := cX0_told) (maxL := 5) (ret := (some .int)) (by decide) rfl ?_
  intro p_ e_ s_ m_ args_ below_ meth_ c_ s₁_ B hml hv
  obtain ⟨rfl, hW, hC⟩ := hv
  have hx := B.exec
  have hb := B.bytes
  have hr := B.returns
  have hts := atoms_spec (ws := (wsW_ yX0_told cX0_told 5 (some .int) [(0, 10, 13, 13)])) B.pre
  have hts : ∀ w ∈ lw_all, w.before _ s_ = true := fun w h => hts w (List.mem_cons_of_mem _ h)
  have hown : s_.vm.findClass RX0 = some m_.cls := findClass_of_methodNamed B.named
  have htab : c_.exceptionTable.toList = tableOf [(0, 10, 13, 13)] := vx_table (x := yX0_told) B (hts _ q983)
  have hlocks := B.notSynchronized
  have hK := hC.1
  have hT := hC.2.1
  have hL := hC.2.2.1
  have hZ := hC.2.2.2.2.1
  have hA := hC.2.2.2.2.2
  have hS : va_S A s_.heap s_.heap [] := va_S.rf
  have hl := lv_entry ([.ref a0, .int a1, .int a2, .ref a3]) (n := 5) (Nat.le_of_ble_eq_true rfl)
  rw [lg_entry_eq]
  generalize (lg_sl ([.ref a0, .int a1, .int a2, .ref a3]) ++ List.replicate (5 - (lg_sl ([.ref a0, .int a1, .int a2, .ref a3])).length) Slot.unset).toArray = ls at hl ⊢
  have hl : lv_has ls 5 [(0, .ref a0), (1, .int a1), (2, .int a2), (3, .ref a3)] := hl
  unfold eX0_told at hd
  refine lv_aload_n (pc := 0) hx hb dX0_told_0 rfl (lv_at hl 3 rfl) ?_
  refine lv_iconst (pc := 1) (v := 0) hx hb dX0_told_1 (by decide) ?_
  refine lv_aload_n (pc := 2) hx hb dX0_told_2 rfl (lv_at hl 0 rfl) ?_
  refine lv_iload_n (pc := 3) hx hb dX0_told_3 rfl (lv_at hl 1 rfl) ?_
  refine lv_iload_n (pc := 4) hx hb dX0_told_4 rfl (lv_at hl 2 rfl) ?_
  obtain ⟨h1, hd⟩ := wt_ck_o hd
  obtain ⟨w2, hc3, hd⟩ := wt_bd_o hd
  refine kX1_told (pc := 5) hfl hx hb hml hown hts hC hW hS h1 hc3 hl.1 (Nat.le_of_ble_eq_true rfl) ⟨Nat.le_of_ble_eq_true rfl, Nat.le_of_ble_eq_true rfl⟩ ⟨(Nat.le_of_ble_eq_true rfl), (Nat.le_of_ble_eq_true rfl)⟩ q984 dX0_told_5 (fun x_ hx_ E_ ce_ q9_ H locs hXB hS hce hvn hfc => ?_) (fun o4 ho_ H locs hW hS => ?_)
  · have hd := wt_rs_r hx_ hd
    by_cases c9 : x_.1 = 100
    · have hd := wt_it hd c9
      refine hx_catchJ (name := "java/lang/IllegalArgumentException") 100 hown [] (⟨0, 10, 13, 13⟩ : ExceptionTableEntry) [] (htab.trans rfl) c9 (by decide) rfl (fun y hy => by cases hy) (by decide) (by decide) (hts _ q670) (va_Nw.use rfl (hC.2.1.1 _ (hw_of q187 rfl))) hXB hce hvn hfc (fun hW => ?_)
      refine lv_astore (pc := 13) (lv' := [(4, .ref q9_), (0, .ref a0), (1, .int a1), (2, .int a2), (3, .ref a3)]) hx hb dX0_told_13 hl (by decide) rfl (fun ls hl => ?_)
      refine lv_iconst (pc := 15) (v := 1) hx hb dX0_told_15 (by decide) ?_
      refine vx_ret ?_
      exact hx_iret (τ := (x_.2.2.1, H.size)) hx hb hr rfl hlocks (Option.some.inj hd) hW hS dX0_told_16 (Nat.le_of_ble_eq_true rfl) (Nat.le_of_ble_eq_true rfl)
    have hd := wt_if hd c9
    exact absurd hd (by intro h; cases h)
  · have hd := wt_rs_l ho_ hd
    refine lv_i2l (pc := 8) hx hb dX0_told_8 rfl ?_
    obtain ⟨z5, h6, hd⟩ := wt_bd_o hd
    obtain ⟨h7, hd⟩ := wt_ck_o hd
    obtain ⟨τ8, eτ8, hd⟩ := wt_lt_o hd
    refine hr_last (pc := 9) hx hb hK hW hS h6 h7 eτ8 dX0_told_9 (fun H locs hW hS => ?_)
    refine lv_goto (pc := 10) (tgt := 17) hx hb dX0_told_10 (by decide) ?_
    refine lv_iconst (pc := 17) (v := 0) hx hb dX0_told_17 (by decide) ?_
    refine vx_ret ?_
    exact hx_iret (τ := τ8) hx hb hr rfl hlocks (Option.some.inj hd) hW hS dX0_told_18 (Nat.le_of_ble_eq_true rfl) (Nat.le_of_ble_eq_true rfl)
theorem kX0_told {p : Program} {l : Launch} {e : Env} {R : Room} {s : State} {m : MethodId} {args : Array Value} {below : List Frame} {meth : Method} {c : Code} {H : Heap} {locs : List Loc} {cells slots : Nat} {Q : State → Prop} {cc : ByteArray} {pc : Nat} {ls : Array Slot} {rest : List Value} {nL : Nat} {own : String} {index : Nat} {G : HG} {A : Nat → Prop} {τ : HP} {a0 : Nat} {a1 : Int32} {a2 : Int32} {a3 : Nat} {out_ : Int32 × HH} (hfl : l.stackTraces = false) (hx : p.tables.exec = Jvm.exec) (hb : c.code = cc) (hml : c.maxLocals = nL) (hown : s.vm.findClass own = some m.cls) (hts : ∀ w ∈ lw_all, w.before args s = true) (hC : Hcx G A s) (hW : Hw G A τ H) (hS : va_S A s.heap H locs) (hd : eX0_told τ a0 a1 a2 a3 = some out_) (hsz : ls.size = nL) (hrm : (rest.map fun v => v.category).sum ≤ 8) (hR : 9 ≤ R.frames ∧ 176 ≤ R.locals) (hcs : (cells + 1) ≤ R.cells ∧ (slots + 6) ≤ R.slots) (hlk : Cond.methodLink own index yX0_told ∈ lw_all) (hdg : decode cc pc = .ok (.invokestatic index, 3)) (kk : ∀ (u_ : HP) (H1 : Heap) (locs1 : List Loc), u_.1 = out_.2 → Hw G A u_ H1 → va_S A s.heap H1 locs1 → W p l e R s m args below meth c H1 locs1 (cells + 1) (slots + 6) Q (F0 m (pc + 3) ls (.int out_.1 :: rest))) : W p l e R s m args below meth c H locs cells slots Q (F0 m pc ls (.ref a3 :: .int a2 :: .int a1 :: .ref a0 :: rest)) := by
  refine vx_calli (vx_runSX (As := [.ref a0, .int a1, .int a2, .ref a3]) (rest := rest) ⟨hx, hb, hml, hown, hts⟩ (wX0_told l hfl hd) (vx_cwSW 4 hts (lw_SW hlk q982 q65 q983) rfl rfl rfl (by decide +kernel) hR) (hr_preS hC hW hS) rfl rfl hsz rfl (lv_room hrm) hdg hcs) hS (fun _ _ h => h) (fun _ h => h) (fun _ _ h => h) (fun E ce q9 u t H1 locs1 ht hvm hp hB hz hk hS1 hce hvn hfc => by cases hp) (fun r u t H1 locs1 ht hvm hp hB hz hk hS1 => ?_)
  have hp : (r, u.1) = out_ := hp
  subst hp
  have hW1 : Hw G A u t.heap := hB
  rw [ht] at hW1
  exact kk u H1 locs1 rfl hW1 hS1
noncomputable def eX0_alike (τ : HP) (a0 : Nat) (a1 : Int32) (a2 : Nat) : Option (Int32 × HH) :=
  wt_ck (hcl τ a0 = some 0) <| wt_bd (eX1_alike τ a0 a1) fun w2 => wt_rs w2 (fun o4 => wt_bd (haL τ a2 4) fun z5 => wt_ck (vp_in (0 : Int32) z5.1) <| wt_lt (hst τ a2 (.inl (4, z5.1, .inr (.inl (vp_updL z5.2 (0 : Int32).toNatClampNeg (Int32.toInt64 o4)))))) fun τ8 => some ((0 : Int32), τ8.1)) (fun x_ => if x_.1 = 100 then (some ((1 : Int32), x_.2.2.1)) else (none))
set_option maxHeartbeats 4000000 in
theorem wX0_alike (l : Launch) (hfl : l.stackTraces = false) {G : HG} {A : Nat → Prop} {τ : HP} {a0 : Nat} {a1 : Int32} {a2 : Nat} {out_ : Int32 × HH} (hd : eX0_alike τ a0 a1 a2 = some out_) : vx_Met l yX0_alike (wsW_ yX0_alike cX0_alike 4 (some .int) [(0, 9, 12, 13)]) ({ frames := 8, cells := 1, slots := 6, locals := 151 }) (hPc G A τ [.ref a0, .int a1, .ref a2]) (hXi G A (fun r u => (r, u.1) = out_)) (hXX G A (Sum.inl out_ : (Int32 × HH) ⊕ (Nat × Nat × HP))) 1 6 A := by
  refine vx_ofWH (hh := [(0, 9, 12, 13)]) (cc := cX0_alike) (maxL := 4) (ret := (some .int)) (by decide) rfl ?_
  intro p_ e_ s_ m_ args_ below_ meth_ c_ s₁_ B hml hv
  obtain ⟨rfl, hW, hC⟩ := hv
  have hx := B.exec
  have hb := B.bytes
  have hr := B.returns
  have hts := atoms_spec (ws := (wsW_ yX0_alike cX0_alike 4 (some .int) [(0, 9, 12, 13)])) B.pre
  have hts : ∀ w ∈ lw_all, w.before _ s_ = true := fun w h => hts w (List.mem_cons_of_mem _ h)
  have hown : s_.vm.findClass RX0 = some m_.cls := findClass_of_methodNamed B.named
  have htab : c_.exceptionTable.toList = tableOf [(0, 9, 12, 13)] := vx_table (x := yX0_alike) B (hts _ q990)
  have hlocks := B.notSynchronized
  have hK := hC.1
  have hT := hC.2.1
  have hL := hC.2.2.1
  have hZ := hC.2.2.2.2.1
  have hA := hC.2.2.2.2.2
  have hS : va_S A s_.heap s_.heap [] := va_S.rf
  have hl := lv_entry ([.ref a0, .int a1, .ref a2]) (n := 4) (Nat.le_of_ble_eq_true rfl)
  rw [lg_entry_eq]
  generalize (lg_sl ([.ref a0, .int a1, .ref a2]) ++ List.replicate (4 - (lg_sl ([.ref a0, .int a1, .ref a2])).length) Slot.unset).toArray = ls at hl ⊢
  have hl : lv_has ls 4 [(0, .ref a0), (1, .int a1), (2, .ref a2)] := hl
  unfold eX0_alike at hd
  refine lv_aload_n (pc := 0) hx hb dX0_alike_0 rfl (lv_at hl 2 rfl) ?_
  refine lv_iconst (pc := 1) (v := 0) hx hb dX0_alike_1 (by decide) ?_
  refine lv_aload_n (pc := 2) hx hb dX0_alike_2 rfl (lv_at hl 0 rfl) ?_
  refine lv_iload_n (pc := 3) hx hb dX0_alike_3 rfl (lv_at hl 1 rfl) ?_
  obtain ⟨h1, hd⟩ := wt_ck_o hd
  obtain ⟨w2, hc3, hd⟩ := wt_bd_o hd
  refine kX1_alike (pc := 4) hfl hx hb hml hown hts hC hW hS h1 hc3 hl.1 (Nat.le_of_ble_eq_true rfl) ⟨Nat.le_of_ble_eq_true rfl, Nat.le_of_ble_eq_true rfl⟩ ⟨(Nat.le_of_ble_eq_true rfl), (Nat.le_of_ble_eq_true rfl)⟩ q991 dX0_alike_4 (fun x_ hx_ E_ ce_ q9_ H locs hXB hS hce hvn hfc => ?_) (fun o4 ho_ H locs hW hS => ?_)
  · have hd := wt_rs_r hx_ hd
    by_cases c9 : x_.1 = 100
    · have hd := wt_it hd c9
      refine hx_catchJ (name := "java/lang/IllegalArgumentException") 100 hown [] (⟨0, 9, 12, 13⟩ : ExceptionTableEntry) [] (htab.trans rfl) c9 (by decide) rfl (fun y hy => by cases hy) (by decide) (by decide) (hts _ q670) (va_Nw.use rfl (hC.2.1.1 _ (hw_of q187 rfl))) hXB hce hvn hfc (fun hW => ?_)
      refine lv_astore_n (pc := 12) (lv' := [(3, .ref q9_), (0, .ref a0), (1, .int a1), (2, .ref a2)]) hx hb dX0_alike_12 rfl hl (by decide) rfl (fun ls hl => ?_)
      refine lv_iconst (pc := 13) (v := 1) hx hb dX0_alike_13 (by decide) ?_
      refine vx_ret ?_
      exact hx_iret (τ := (x_.2.2.1, H.size)) hx hb hr rfl hlocks (Option.some.inj hd) hW hS dX0_alike_14 (Nat.le_of_ble_eq_true rfl) (Nat.le_of_ble_eq_true rfl)
    have hd := wt_if hd c9
    exact absurd hd (by intro h; cases h)
  · have hd := wt_rs_l ho_ hd
    refine lv_i2l (pc := 7) hx hb dX0_alike_7 rfl ?_
    obtain ⟨z5, h6, hd⟩ := wt_bd_o hd
    obtain ⟨h7, hd⟩ := wt_ck_o hd
    obtain ⟨τ8, eτ8, hd⟩ := wt_lt_o hd
    refine hr_last (pc := 8) hx hb hK hW hS h6 h7 eτ8 dX0_alike_8 (fun H locs hW hS => ?_)
    refine lv_goto (pc := 9) (tgt := 15) hx hb dX0_alike_9 (by decide) ?_
    refine lv_iconst (pc := 15) (v := 0) hx hb dX0_alike_15 (by decide) ?_
    refine vx_ret ?_
    exact hx_iret (τ := τ8) hx hb hr rfl hlocks (Option.some.inj hd) hW hS dX0_alike_16 (Nat.le_of_ble_eq_true rfl) (Nat.le_of_ble_eq_true rfl)
theorem kX0_alike {p : Program} {l : Launch} {e : Env} {R : Room} {s : State} {m : MethodId} {args : Array Value} {below : List Frame} {meth : Method} {c : Code} {H : Heap} {locs : List Loc} {cells slots : Nat} {Q : State → Prop} {cc : ByteArray} {pc : Nat} {ls : Array Slot} {rest : List Value} {nL : Nat} {own : String} {index : Nat} {G : HG} {A : Nat → Prop} {τ : HP} {a0 : Nat} {a1 : Int32} {a2 : Nat} {out_ : Int32 × HH} (hfl : l.stackTraces = false) (hx : p.tables.exec = Jvm.exec) (hb : c.code = cc) (hml : c.maxLocals = nL) (hown : s.vm.findClass own = some m.cls) (hts : ∀ w ∈ lw_all, w.before args s = true) (hC : Hcx G A s) (hW : Hw G A τ H) (hS : va_S A s.heap H locs) (hd : eX0_alike τ a0 a1 a2 = some out_) (hsz : ls.size = nL) (hrm : (rest.map fun v => v.category).sum ≤ 8) (hR : 9 ≤ R.frames ∧ 174 ≤ R.locals) (hcs : (cells + 1) ≤ R.cells ∧ (slots + 6) ≤ R.slots) (hlk : Cond.methodLink own index yX0_alike ∈ lw_all) (hdg : decode cc pc = .ok (.invokestatic index, 3)) (kk : ∀ (u_ : HP) (H1 : Heap) (locs1 : List Loc), u_.1 = out_.2 → Hw G A u_ H1 → va_S A s.heap H1 locs1 → W p l e R s m args below meth c H1 locs1 (cells + 1) (slots + 6) Q (F0 m (pc + 3) ls (.int out_.1 :: rest))) : W p l e R s m args below meth c H locs cells slots Q (F0 m pc ls (.ref a2 :: .int a1 :: .ref a0 :: rest)) := by
  refine vx_calli (vx_runSX (As := [.ref a0, .int a1, .ref a2]) (rest := rest) ⟨hx, hb, hml, hown, hts⟩ (wX0_alike l hfl hd) (vx_cwSW 3 hts (lw_SW hlk q989 q65 q990) rfl rfl rfl (by decide +kernel) hR) (hr_preS hC hW hS) rfl rfl hsz rfl (lv_room hrm) hdg hcs) hS (fun _ _ h => h) (fun _ h => h) (fun _ _ h => h) (fun E ce q9 u t H1 locs1 ht hvm hp hB hz hk hS1 hce hvn hfc => by cases hp) (fun r u t H1 locs1 ht hvm hp hB hz hk hS1 => ?_)
  have hp : (r, u.1) = out_ := hp
  subst hp
  have hW1 : Hw G A u t.heap := hB
  rw [ht] at hW1
  exact kk u H1 locs1 rfl hW1 hS1
noncomputable def eX0_lies (τ : HP) (a0 : Nat) (a1 : Int32) (a2 : Int32) (a3 : Int32) (a4 : Int32) (a5 : Nat) : Option (Int32 × HH) :=
  wt_ck (hcl τ a0 = some 0) <| wt_bd (eX1_lies τ a0 a1 a2 a3 a4) fun w2 => wt_rs w2 (fun o4 => wt_bd (haL o4.2 a5 4) fun z5 => wt_ck (vp_in (0 : Int32) z5.1) <| wt_lt (hst o4.2 a5 (.inl (4, z5.1, .inr (.inl (vp_updL z5.2 (0 : Int32).toNatClampNeg (Int32.toInt64 o4.1)))))) fun τ8 => some ((0 : Int32), τ8.1)) (fun x_ => if x_.1 = 101 then (some ((1 : Int32), x_.2.2.1)) else (if x_.1 = 100 then (some ((2 : Int32), x_.2.2.1)) else (none)))
set_option maxHeartbeats 4000000 in
theorem wX0_lies (l : Launch) (hfl : l.stackTraces = false) {G : HG} {A : Nat → Prop} {τ : HP} {a0 : Nat} {a1 : Int32} {a2 : Int32} {a3 : Int32} {a4 : Int32} {a5 : Nat} {out_ : Int32 × HH} (hd : eX0_lies τ a0 a1 a2 a3 a4 a5 = some out_) : vx_Met l yX0_lies (wsW_ yX0_lies cX0_lies 7 (some .int) [(0, 14, 17, 32), (0, 14, 21, 13)]) ({ frames := 8, cells := 5, slots := 126, locals := 157 }) (hPc G A τ [.ref a0, .int a1, .int a2, .int a3, .int a4, .ref a5]) (hXi G A (fun r u => (r, u.1) = out_)) (hXX G A (Sum.inl out_ : (Int32 × HH) ⊕ (Nat × Nat × HP))) 5 126 A := by
  refine vx_ofWH (hh := [(0, 14, 17, 32), (0, 14, 21, 13)]) (cc := cX0_lies) (maxL := 7) (ret := (some .int)) (by decide) rfl ?_
  intro p_ e_ s_ m_ args_ below_ meth_ c_ s₁_ B hml hv
  obtain ⟨rfl, hW, hC⟩ := hv
  have hx := B.exec
  have hb := B.bytes
  have hr := B.returns
  have hts := atoms_spec (ws := (wsW_ yX0_lies cX0_lies 7 (some .int) [(0, 14, 17, 32), (0, 14, 21, 13)])) B.pre
  have hts : ∀ w ∈ lw_all, w.before _ s_ = true := fun w h => hts w (List.mem_cons_of_mem _ h)
  have hown : s_.vm.findClass RX0 = some m_.cls := findClass_of_methodNamed B.named
  have htab : c_.exceptionTable.toList = tableOf [(0, 14, 17, 32), (0, 14, 21, 13)] := vx_table (x := yX0_lies) B (hts _ q997)
  have hlocks := B.notSynchronized
  have hK := hC.1
  have hT := hC.2.1
  have hL := hC.2.2.1
  have hZ := hC.2.2.2.2.1
  have hA := hC.2.2.2.2.2
  have hS : va_S A s_.heap s_.heap [] := va_S.rf
  have hl := lv_entry ([.ref a0, .int a1, .int a2, .int a3, .int a4, .ref a5]) (n := 7) (Nat.le_of_ble_eq_true rfl)
  rw [lg_entry_eq]
  generalize (lg_sl ([.ref a0, .int a1, .int a2, .int a3, .int a4, .ref a5]) ++ List.replicate (7 - (lg_sl ([.ref a0, .int a1, .int a2, .int a3, .int a4, .ref a5])).length) Slot.unset).toArray = ls at hl ⊢
  have hl : lv_has ls 7 [(0, .ref a0), (1, .int a1), (2, .int a2), (3, .int a3), (4, .int a4), (5, .ref a5)] := hl
  unfold eX0_lies at hd
  refine lv_aload (pc := 0) hx hb dX0_lies_0 (lv_at hl 5 rfl) ?_
  refine lv_iconst (pc := 2) (v := 0) hx hb dX0_lies_2 (by decide) ?_
  refine lv_aload_n (pc := 3) hx hb dX0_lies_3 rfl (lv_at hl 0 rfl) ?_
  refine lv_iload_n (pc := 4) hx hb dX0_lies_4 rfl (lv_at hl 1 rfl) ?_
  refine lv_iload_n (pc := 5) hx hb dX0_lies_5 rfl (lv_at hl 2 rfl) ?_
  refine lv_iload_n (pc := 6) hx hb dX0_lies_6 rfl (lv_at hl 3 rfl) ?_
  refine lv_iload (pc := 7) hx hb dX0_lies_7 (lv_at hl 4 rfl) ?_
  obtain ⟨h1, hd⟩ := wt_ck_o hd
  obtain ⟨w2, hc3, hd⟩ := wt_bd_o hd
  refine kX1_lies (pc := 9) hfl hx hb hml hown hts hC hW hS h1 hc3 hl.1 (Nat.le_of_ble_eq_true rfl) ⟨Nat.le_of_ble_eq_true rfl, Nat.le_of_ble_eq_true rfl⟩ ⟨(Nat.le_of_ble_eq_true rfl), (Nat.le_of_ble_eq_true rfl)⟩ q999 dX0_lies_9 (fun x_ hx_ E_ ce_ q9_ H locs hXB hS hce hvn hfc => ?_) (fun o4 ho_ H locs hW hS => ?_)
  · have hd := wt_rs_r hx_ hd
    by_cases c9 : x_.1 = 101
    · have hd := wt_it hd c9
      refine hx_catchJ (name := "java/util/NoSuchElementException") 101 hown [] (⟨0, 14, 17, 32⟩ : ExceptionTableEntry) [(⟨0, 14, 21, 13⟩ : ExceptionTableEntry)] (htab.trans rfl) c9 (by decide) rfl (fun y hy => by cases hy) (by decide) (by decide) (hts _ q998) (va_Nw.use rfl (hC.2.1.1 _ (hw_of q1009 rfl))) hXB hce hvn hfc (fun hW => ?_)
      refine lv_astore (pc := 17) (lv' := [(6, .ref q9_), (0, .ref a0), (1, .int a1), (2, .int a2), (3, .int a3), (4, .int a4), (5, .ref a5)]) hx hb dX0_lies_17 hl (by decide) rfl (fun ls hl => ?_)
      refine lv_iconst (pc := 19) (v := 1) hx hb dX0_lies_19 (by decide) ?_
      refine vx_ret ?_
      exact hx_iret (τ := (x_.2.2.1, H.size)) hx hb hr rfl hlocks (Option.some.inj hd) hW hS dX0_lies_20 (Nat.le_of_ble_eq_true rfl) (Nat.le_of_ble_eq_true rfl)
    have hd := wt_if hd c9
    by_cases c10 : x_.1 = 100
    · have hd := wt_it hd c10
      refine hx_catchJ (name := "java/lang/IllegalArgumentException") 100 hown [(⟨0, 14, 17, 32⟩ : ExceptionTableEntry)] (⟨0, 14, 21, 13⟩ : ExceptionTableEntry) [] (htab.trans rfl) c10 (by decide) rfl (fun y hy => by rcases List.mem_singleton.mp hy with rfl; exact Or.inr ⟨by decide, _, hts _ q998, hC.2.2.2.1.2.2.2.1⟩) (by decide) (by decide) (hts _ q670) (va_Nw.use rfl (hC.2.1.1 _ (hw_of q187 rfl))) hXB hce hvn hfc (fun hW => ?_)
      refine lv_astore (pc := 21) (lv' := [(6, .ref q9_), (0, .ref a0), (1, .int a1), (2, .int a2), (3, .int a3), (4, .int a4), (5, .ref a5)]) hx hb dX0_lies_21 hl (by decide) rfl (fun ls hl => ?_)
      refine lv_iconst (pc := 23) (v := 2) hx hb dX0_lies_23 (by decide) ?_
      refine vx_ret ?_
      exact hx_iret (τ := (x_.2.2.1, H.size)) hx hb hr rfl hlocks (Option.some.inj hd) hW hS dX0_lies_24 (Nat.le_of_ble_eq_true rfl) (Nat.le_of_ble_eq_true rfl)
    have hd := wt_if hd c10
    exact absurd hd (by intro h; cases h)
  · have hd := wt_rs_l ho_ hd
    refine lv_i2l (pc := 12) hx hb dX0_lies_12 rfl ?_
    obtain ⟨z5, h6, hd⟩ := wt_bd_o hd
    obtain ⟨h7, hd⟩ := wt_ck_o hd
    obtain ⟨τ8, eτ8, hd⟩ := wt_lt_o hd
    refine hr_last (pc := 13) hx hb hK hW hS h6 h7 eτ8 dX0_lies_13 (fun H locs hW hS => ?_)
    refine lv_goto (pc := 14) (tgt := 25) hx hb dX0_lies_14 (by decide) ?_
    refine lv_iconst (pc := 25) (v := 0) hx hb dX0_lies_25 (by decide) ?_
    refine vx_ret ?_
    exact hx_iret (τ := τ8) hx hb hr rfl hlocks (Option.some.inj hd) hW hS dX0_lies_26 (Nat.le_of_ble_eq_true rfl) (Nat.le_of_ble_eq_true rfl)
theorem kX0_lies {p : Program} {l : Launch} {e : Env} {R : Room} {s : State} {m : MethodId} {args : Array Value} {below : List Frame} {meth : Method} {c : Code} {H : Heap} {locs : List Loc} {cells slots : Nat} {Q : State → Prop} {cc : ByteArray} {pc : Nat} {ls : Array Slot} {rest : List Value} {nL : Nat} {own : String} {index : Nat} {G : HG} {A : Nat → Prop} {τ : HP} {a0 : Nat} {a1 : Int32} {a2 : Int32} {a3 : Int32} {a4 : Int32} {a5 : Nat} {out_ : Int32 × HH} (hfl : l.stackTraces = false) (hx : p.tables.exec = Jvm.exec) (hb : c.code = cc) (hml : c.maxLocals = nL) (hown : s.vm.findClass own = some m.cls) (hts : ∀ w ∈ lw_all, w.before args s = true) (hC : Hcx G A s) (hW : Hw G A τ H) (hS : va_S A s.heap H locs) (hd : eX0_lies τ a0 a1 a2 a3 a4 a5 = some out_) (hsz : ls.size = nL) (hrm : (rest.map fun v => v.category).sum ≤ 8) (hR : 9 ≤ R.frames ∧ 183 ≤ R.locals) (hcs : (cells + 5) ≤ R.cells ∧ (slots + 126) ≤ R.slots) (hlk : Cond.methodLink own index yX0_lies ∈ lw_all) (hdg : decode cc pc = .ok (.invokestatic index, 3)) (kk : ∀ (u_ : HP) (H1 : Heap) (locs1 : List Loc), u_.1 = out_.2 → Hw G A u_ H1 → va_S A s.heap H1 locs1 → W p l e R s m args below meth c H1 locs1 (cells + 5) (slots + 126) Q (F0 m (pc + 3) ls (.int out_.1 :: rest))) : W p l e R s m args below meth c H locs cells slots Q (F0 m pc ls (.ref a5 :: .int a4 :: .int a3 :: .int a2 :: .int a1 :: .ref a0 :: rest)) := by
  refine vx_calli (vx_runSX (As := [.ref a0, .int a1, .int a2, .int a3, .int a4, .ref a5]) (rest := rest) ⟨hx, hb, hml, hown, hts⟩ (wX0_lies l hfl hd) (vx_cwSW 6 hts (lw_SW hlk q996 q65 q997) rfl rfl rfl (by decide +kernel) hR) (hr_preS hC hW hS) rfl rfl hsz rfl (lv_room hrm) hdg hcs) hS (fun _ _ h => h) (fun _ h => h) (fun _ _ h => h) (fun E ce q9 u t H1 locs1 ht hvm hp hB hz hk hS1 hce hvn hfc => by cases hp) (fun r u t H1 locs1 ht hvm hp hB hz hk hS1 => ?_)
  have hp : (r, u.1) = out_ := hp
  subst hp
  have hW1 : Hw G A u t.heap := hB
  rw [ht] at hW1
  exact kk u H1 locs1 rfl hW1 hS1
noncomputable def eX0_pile (τ : HP) (a0 : Nat) (a1 : Int32) (a2 : Int32) (a3 : Int32) (a4 : Int32) (a5 : Nat) : Option (Int32 × HH) :=
  wt_ck (hcl τ a0 = some 0) <| wt_bd (eX1_pile τ a0 a1 a2 a3 a4) fun w2 => wt_rs w2 (fun o4 => wt_bd (haL o4.2 a5 4) fun z5 => wt_ck (vp_in (0 : Int32) z5.1) <| wt_lt (hst o4.2 a5 (.inl (4, z5.1, .inr (.inl (vp_updL z5.2 (0 : Int32).toNatClampNeg (Int32.toInt64 o4.1)))))) fun τ8 => some ((0 : Int32), τ8.1)) (fun x_ => if x_.1 = 101 then (some ((1 : Int32), x_.2.2.1)) else (if x_.1 = 100 then (some ((2 : Int32), x_.2.2.1)) else (none)))
set_option maxHeartbeats 4000000 in
theorem wX0_pile (l : Launch) (hfl : l.stackTraces = false) {G : HG} {A : Nat → Prop} {τ : HP} {a0 : Nat} {a1 : Int32} {a2 : Int32} {a3 : Int32} {a4 : Int32} {a5 : Nat} {out_ : Int32 × HH} (hd : eX0_pile τ a0 a1 a2 a3 a4 a5 = some out_) : vx_Met l yX0_pile (wsW_ yX0_pile cX0_pile 7 (some .int) [(0, 14, 17, 32), (0, 14, 21, 13)]) ({ frames := 8, cells := 5, slots := 126, locals := 157 }) (hPc G A τ [.ref a0, .int a1, .int a2, .int a3, .int a4, .ref a5]) (hXi G A (fun r u => (r, u.1) = out_)) (hXX G A (Sum.inl out_ : (Int32 × HH) ⊕ (Nat × Nat × HP))) 5 126 A := by
  refine vx_ofWH (hh := [(0, 14, 17, 32), (0, 14, 21, 13)]) (cc := cX0_pile) (maxL := 7) (ret := (some .int)) (by decide) rfl ?_
  intro p_ e_ s_ m_ args_ below_ meth_ c_ s₁_ B hml hv
  obtain ⟨rfl, hW, hC⟩ := hv
  have hx := B.exec
  have hb := B.bytes
  have hr := B.returns
  have hts := atoms_spec (ws := (wsW_ yX0_pile cX0_pile 7 (some .int) [(0, 14, 17, 32), (0, 14, 21, 13)])) B.pre
  have hts : ∀ w ∈ lw_all, w.before _ s_ = true := fun w h => hts w (List.mem_cons_of_mem _ h)
  have hown : s_.vm.findClass RX0 = some m_.cls := findClass_of_methodNamed B.named
  have htab : c_.exceptionTable.toList = tableOf [(0, 14, 17, 32), (0, 14, 21, 13)] := vx_table (x := yX0_pile) B (hts _ q1139)
  have hlocks := B.notSynchronized
  have hK := hC.1
  have hT := hC.2.1
  have hL := hC.2.2.1
  have hZ := hC.2.2.2.2.1
  have hA := hC.2.2.2.2.2
  have hS : va_S A s_.heap s_.heap [] := va_S.rf
  have hl := lv_entry ([.ref a0, .int a1, .int a2, .int a3, .int a4, .ref a5]) (n := 7) (Nat.le_of_ble_eq_true rfl)
  rw [lg_entry_eq]
  generalize (lg_sl ([.ref a0, .int a1, .int a2, .int a3, .int a4, .ref a5]) ++ List.replicate (7 - (lg_sl ([.ref a0, .int a1, .int a2, .int a3, .int a4, .ref a5])).length) Slot.unset).toArray = ls at hl ⊢
  have hl : lv_has ls 7 [(0, .ref a0), (1, .int a1), (2, .int a2), (3, .int a3), (4, .int a4), (5, .ref a5)] := hl
  unfold eX0_pile at hd
  refine lv_aload (pc := 0) hx hb dX0_pile_0 (lv_at hl 5 rfl) ?_
  refine lv_iconst (pc := 2) (v := 0) hx hb dX0_pile_2 (by decide) ?_
  refine lv_aload_n (pc := 3) hx hb dX0_pile_3 rfl (lv_at hl 0 rfl) ?_
  refine lv_iload_n (pc := 4) hx hb dX0_pile_4 rfl (lv_at hl 1 rfl) ?_
  refine lv_iload_n (pc := 5) hx hb dX0_pile_5 rfl (lv_at hl 2 rfl) ?_
  refine lv_iload_n (pc := 6) hx hb dX0_pile_6 rfl (lv_at hl 3 rfl) ?_
  refine lv_iload (pc := 7) hx hb dX0_pile_7 (lv_at hl 4 rfl) ?_
  obtain ⟨h1, hd⟩ := wt_ck_o hd
  obtain ⟨w2, hc3, hd⟩ := wt_bd_o hd
  refine kX1_pile (pc := 9) hfl hx hb hml hown hts hC hW hS h1 hc3 hl.1 (Nat.le_of_ble_eq_true rfl) ⟨Nat.le_of_ble_eq_true rfl, Nat.le_of_ble_eq_true rfl⟩ ⟨(Nat.le_of_ble_eq_true rfl), (Nat.le_of_ble_eq_true rfl)⟩ q1140 dX0_pile_9 (fun x_ hx_ E_ ce_ q9_ H locs hXB hS hce hvn hfc => ?_) (fun o4 ho_ H locs hW hS => ?_)
  · have hd := wt_rs_r hx_ hd
    by_cases c9 : x_.1 = 101
    · have hd := wt_it hd c9
      refine hx_catchJ (name := "java/util/NoSuchElementException") 101 hown [] (⟨0, 14, 17, 32⟩ : ExceptionTableEntry) [(⟨0, 14, 21, 13⟩ : ExceptionTableEntry)] (htab.trans rfl) c9 (by decide) rfl (fun y hy => by cases hy) (by decide) (by decide) (hts _ q998) (va_Nw.use rfl (hC.2.1.1 _ (hw_of q1009 rfl))) hXB hce hvn hfc (fun hW => ?_)
      refine lv_astore (pc := 17) (lv' := [(6, .ref q9_), (0, .ref a0), (1, .int a1), (2, .int a2), (3, .int a3), (4, .int a4), (5, .ref a5)]) hx hb dX0_pile_17 hl (by decide) rfl (fun ls hl => ?_)
      refine lv_iconst (pc := 19) (v := 1) hx hb dX0_pile_19 (by decide) ?_
      refine vx_ret ?_
      exact hx_iret (τ := (x_.2.2.1, H.size)) hx hb hr rfl hlocks (Option.some.inj hd) hW hS dX0_pile_20 (Nat.le_of_ble_eq_true rfl) (Nat.le_of_ble_eq_true rfl)
    have hd := wt_if hd c9
    by_cases c10 : x_.1 = 100
    · have hd := wt_it hd c10
      refine hx_catchJ (name := "java/lang/IllegalArgumentException") 100 hown [(⟨0, 14, 17, 32⟩ : ExceptionTableEntry)] (⟨0, 14, 21, 13⟩ : ExceptionTableEntry) [] (htab.trans rfl) c10 (by decide) rfl (fun y hy => by rcases List.mem_singleton.mp hy with rfl; exact Or.inr ⟨by decide, _, hts _ q998, hC.2.2.2.1.2.2.2.1⟩) (by decide) (by decide) (hts _ q670) (va_Nw.use rfl (hC.2.1.1 _ (hw_of q187 rfl))) hXB hce hvn hfc (fun hW => ?_)
      refine lv_astore (pc := 21) (lv' := [(6, .ref q9_), (0, .ref a0), (1, .int a1), (2, .int a2), (3, .int a3), (4, .int a4), (5, .ref a5)]) hx hb dX0_pile_21 hl (by decide) rfl (fun ls hl => ?_)
      refine lv_iconst (pc := 23) (v := 2) hx hb dX0_pile_23 (by decide) ?_
      refine vx_ret ?_
      exact hx_iret (τ := (x_.2.2.1, H.size)) hx hb hr rfl hlocks (Option.some.inj hd) hW hS dX0_pile_24 (Nat.le_of_ble_eq_true rfl) (Nat.le_of_ble_eq_true rfl)
    have hd := wt_if hd c10
    exact absurd hd (by intro h; cases h)
  · have hd := wt_rs_l ho_ hd
    refine lv_i2l (pc := 12) hx hb dX0_pile_12 rfl ?_
    obtain ⟨z5, h6, hd⟩ := wt_bd_o hd
    obtain ⟨h7, hd⟩ := wt_ck_o hd
    obtain ⟨τ8, eτ8, hd⟩ := wt_lt_o hd
    refine hr_last (pc := 13) hx hb hK hW hS h6 h7 eτ8 dX0_pile_13 (fun H locs hW hS => ?_)
    refine lv_goto (pc := 14) (tgt := 25) hx hb dX0_pile_14 (by decide) ?_
    refine lv_iconst (pc := 25) (v := 0) hx hb dX0_pile_25 (by decide) ?_
    refine vx_ret ?_
    exact hx_iret (τ := τ8) hx hb hr rfl hlocks (Option.some.inj hd) hW hS dX0_pile_26 (Nat.le_of_ble_eq_true rfl) (Nat.le_of_ble_eq_true rfl)
theorem kX0_pile {p : Program} {l : Launch} {e : Env} {R : Room} {s : State} {m : MethodId} {args : Array Value} {below : List Frame} {meth : Method} {c : Code} {H : Heap} {locs : List Loc} {cells slots : Nat} {Q : State → Prop} {cc : ByteArray} {pc : Nat} {ls : Array Slot} {rest : List Value} {nL : Nat} {own : String} {index : Nat} {G : HG} {A : Nat → Prop} {τ : HP} {a0 : Nat} {a1 : Int32} {a2 : Int32} {a3 : Int32} {a4 : Int32} {a5 : Nat} {out_ : Int32 × HH} (hfl : l.stackTraces = false) (hx : p.tables.exec = Jvm.exec) (hb : c.code = cc) (hml : c.maxLocals = nL) (hown : s.vm.findClass own = some m.cls) (hts : ∀ w ∈ lw_all, w.before args s = true) (hC : Hcx G A s) (hW : Hw G A τ H) (hS : va_S A s.heap H locs) (hd : eX0_pile τ a0 a1 a2 a3 a4 a5 = some out_) (hsz : ls.size = nL) (hrm : (rest.map fun v => v.category).sum ≤ 8) (hR : 9 ≤ R.frames ∧ 183 ≤ R.locals) (hcs : (cells + 5) ≤ R.cells ∧ (slots + 126) ≤ R.slots) (hlk : Cond.methodLink own index yX0_pile ∈ lw_all) (hdg : decode cc pc = .ok (.invokestatic index, 3)) (kk : ∀ (u_ : HP) (H1 : Heap) (locs1 : List Loc), u_.1 = out_.2 → Hw G A u_ H1 → va_S A s.heap H1 locs1 → W p l e R s m args below meth c H1 locs1 (cells + 5) (slots + 126) Q (F0 m (pc + 3) ls (.int out_.1 :: rest))) : W p l e R s m args below meth c H locs cells slots Q (F0 m pc ls (.ref a5 :: .int a4 :: .int a3 :: .int a2 :: .int a1 :: .ref a0 :: rest)) := by
  refine vx_calli (vx_runSX (As := [.ref a0, .int a1, .int a2, .int a3, .int a4, .ref a5]) (rest := rest) ⟨hx, hb, hml, hown, hts⟩ (wX0_pile l hfl hd) (vx_cwSW 6 hts (lw_SW hlk q1138 q65 q1139) rfl rfl rfl (by decide +kernel) hR) (hr_preS hC hW hS) rfl rfl hsz rfl (lv_room hrm) hdg hcs) hS (fun _ _ h => h) (fun _ h => h) (fun _ _ h => h) (fun E ce q9 u t H1 locs1 ht hvm hp hB hz hk hS1 hce hvn hfc => by cases hp) (fun r u t H1 locs1 ht hvm hp hB hz hk hS1 => ?_)
  have hp : (r, u.1) = out_ := hp
  subst hp
  have hW1 : Hw G A u t.heap := hB
  rw [ht] at hW1
  exact kk u H1 locs1 rfl hW1 hS1
noncomputable def eX0_wears (τ : HP) (a0 : Nat) (a1 : Int32) (a2 : Int32) (a3 : Int32) (a4 : Nat) : Option (Int32 × HH) :=
  wt_ck (hcl τ a0 = some 0) <| wt_bd (eX1_wears τ a0 a1 a2 a3) fun w2 => wt_rs w2 (fun o4 => wt_bd (haL o4.2 a4 4) fun z5 => wt_ck (vp_in (0 : Int32) z5.1) <| wt_lt (hst o4.2 a4 (.inl (4, z5.1, .inr (.inl (vp_updL z5.2 (0 : Int32).toNatClampNeg (Int32.toInt64 o4.1)))))) fun τ8 => some ((0 : Int32), τ8.1)) (fun x_ => if x_.1 = 101 then (some ((1 : Int32), x_.2.2.1)) else (if x_.1 = 100 then (some ((2 : Int32), x_.2.2.1)) else (none)))
set_option maxHeartbeats 4000000 in
theorem wX0_wears (l : Launch) (hfl : l.stackTraces = false) {G : HG} {A : Nat → Prop} {τ : HP} {a0 : Nat} {a1 : Int32} {a2 : Int32} {a3 : Int32} {a4 : Nat} {out_ : Int32 × HH} (hd : eX0_wears τ a0 a1 a2 a3 a4 = some out_) : vx_Met l yX0_wears (wsW_ yX0_wears cX0_wears 6 (some .int) [(0, 12, 15, 32), (0, 12, 19, 13)]) ({ frames := 8, cells := 5, slots := 126, locals := 156 }) (hPc G A τ [.ref a0, .int a1, .int a2, .int a3, .ref a4]) (hXi G A (fun r u => (r, u.1) = out_)) (hXX G A (Sum.inl out_ : (Int32 × HH) ⊕ (Nat × Nat × HP))) 5 126 A := by
  refine vx_ofWH (hh := [(0, 12, 15, 32), (0, 12, 19, 13)]) (cc := cX0_wears) (maxL := 6) (ret := (some .int)) (by decide) rfl ?_
  intro p_ e_ s_ m_ args_ below_ meth_ c_ s₁_ B hml hv
  obtain ⟨rfl, hW, hC⟩ := hv
  have hx := B.exec
  have hb := B.bytes
  have hr := B.returns
  have hts := atoms_spec (ws := (wsW_ yX0_wears cX0_wears 6 (some .int) [(0, 12, 15, 32), (0, 12, 19, 13)])) B.pre
  have hts : ∀ w ∈ lw_all, w.before _ s_ = true := fun w h => hts w (List.mem_cons_of_mem _ h)
  have hown : s_.vm.findClass RX0 = some m_.cls := findClass_of_methodNamed B.named
  have htab : c_.exceptionTable.toList = tableOf [(0, 12, 15, 32), (0, 12, 19, 13)] := vx_table (x := yX0_wears) B (hts _ q1150)
  have hlocks := B.notSynchronized
  have hK := hC.1
  have hT := hC.2.1
  have hL := hC.2.2.1
  have hZ := hC.2.2.2.2.1
  have hA := hC.2.2.2.2.2
  have hS : va_S A s_.heap s_.heap [] := va_S.rf
  have hl := lv_entry ([.ref a0, .int a1, .int a2, .int a3, .ref a4]) (n := 6) (Nat.le_of_ble_eq_true rfl)
  rw [lg_entry_eq]
  generalize (lg_sl ([.ref a0, .int a1, .int a2, .int a3, .ref a4]) ++ List.replicate (6 - (lg_sl ([.ref a0, .int a1, .int a2, .int a3, .ref a4])).length) Slot.unset).toArray = ls at hl ⊢
  have hl : lv_has ls 6 [(0, .ref a0), (1, .int a1), (2, .int a2), (3, .int a3), (4, .ref a4)] := hl
  unfold eX0_wears at hd
  refine lv_aload (pc := 0) hx hb dX0_wears_0 (lv_at hl 4 rfl) ?_
  refine lv_iconst (pc := 2) (v := 0) hx hb dX0_wears_2 (by decide) ?_
  refine lv_aload_n (pc := 3) hx hb dX0_wears_3 rfl (lv_at hl 0 rfl) ?_
  refine lv_iload_n (pc := 4) hx hb dX0_wears_4 rfl (lv_at hl 1 rfl) ?_
  refine lv_iload_n (pc := 5) hx hb dX0_wears_5 rfl (lv_at hl 2 rfl) ?_
  refine lv_iload_n (pc := 6) hx hb dX0_wears_6 rfl (lv_at hl 3 rfl) ?_
  obtain ⟨h1, hd⟩ := wt_ck_o hd
  obtain ⟨w2, hc3, hd⟩ := wt_bd_o hd
  refine kX1_wears (pc := 7) hfl hx hb hml hown hts hC hW hS h1 hc3 hl.1 (Nat.le_of_ble_eq_true rfl) ⟨Nat.le_of_ble_eq_true rfl, Nat.le_of_ble_eq_true rfl⟩ ⟨(Nat.le_of_ble_eq_true rfl), (Nat.le_of_ble_eq_true rfl)⟩ q1151 dX0_wears_7 (fun x_ hx_ E_ ce_ q9_ H locs hXB hS hce hvn hfc => ?_) (fun o4 ho_ H locs hW hS => ?_)
  · have hd := wt_rs_r hx_ hd
    by_cases c9 : x_.1 = 101
    · have hd := wt_it hd c9
      refine hx_catchJ (name := "java/util/NoSuchElementException") 101 hown [] (⟨0, 12, 15, 32⟩ : ExceptionTableEntry) [(⟨0, 12, 19, 13⟩ : ExceptionTableEntry)] (htab.trans rfl) c9 (by decide) rfl (fun y hy => by cases hy) (by decide) (by decide) (hts _ q998) (va_Nw.use rfl (hC.2.1.1 _ (hw_of q1009 rfl))) hXB hce hvn hfc (fun hW => ?_)
      refine lv_astore (pc := 15) (lv' := [(5, .ref q9_), (0, .ref a0), (1, .int a1), (2, .int a2), (3, .int a3), (4, .ref a4)]) hx hb dX0_wears_15 hl (by decide) rfl (fun ls hl => ?_)
      refine lv_iconst (pc := 17) (v := 1) hx hb dX0_wears_17 (by decide) ?_
      refine vx_ret ?_
      exact hx_iret (τ := (x_.2.2.1, H.size)) hx hb hr rfl hlocks (Option.some.inj hd) hW hS dX0_wears_18 (Nat.le_of_ble_eq_true rfl) (Nat.le_of_ble_eq_true rfl)
    have hd := wt_if hd c9
    by_cases c10 : x_.1 = 100
    · have hd := wt_it hd c10
      refine hx_catchJ (name := "java/lang/IllegalArgumentException") 100 hown [(⟨0, 12, 15, 32⟩ : ExceptionTableEntry)] (⟨0, 12, 19, 13⟩ : ExceptionTableEntry) [] (htab.trans rfl) c10 (by decide) rfl (fun y hy => by rcases List.mem_singleton.mp hy with rfl; exact Or.inr ⟨by decide, _, hts _ q998, hC.2.2.2.1.2.2.2.1⟩) (by decide) (by decide) (hts _ q670) (va_Nw.use rfl (hC.2.1.1 _ (hw_of q187 rfl))) hXB hce hvn hfc (fun hW => ?_)
      refine lv_astore (pc := 19) (lv' := [(5, .ref q9_), (0, .ref a0), (1, .int a1), (2, .int a2), (3, .int a3), (4, .ref a4)]) hx hb dX0_wears_19 hl (by decide) rfl (fun ls hl => ?_)
      refine lv_iconst (pc := 21) (v := 2) hx hb dX0_wears_21 (by decide) ?_
      refine vx_ret ?_
      exact hx_iret (τ := (x_.2.2.1, H.size)) hx hb hr rfl hlocks (Option.some.inj hd) hW hS dX0_wears_22 (Nat.le_of_ble_eq_true rfl) (Nat.le_of_ble_eq_true rfl)
    have hd := wt_if hd c10
    exact absurd hd (by intro h; cases h)
  · have hd := wt_rs_l ho_ hd
    refine lv_i2l (pc := 10) hx hb dX0_wears_10 rfl ?_
    obtain ⟨z5, h6, hd⟩ := wt_bd_o hd
    obtain ⟨h7, hd⟩ := wt_ck_o hd
    obtain ⟨τ8, eτ8, hd⟩ := wt_lt_o hd
    refine hr_last (pc := 11) hx hb hK hW hS h6 h7 eτ8 dX0_wears_11 (fun H locs hW hS => ?_)
    refine lv_goto (pc := 12) (tgt := 23) hx hb dX0_wears_12 (by decide) ?_
    refine lv_iconst (pc := 23) (v := 0) hx hb dX0_wears_23 (by decide) ?_
    refine vx_ret ?_
    exact hx_iret (τ := τ8) hx hb hr rfl hlocks (Option.some.inj hd) hW hS dX0_wears_24 (Nat.le_of_ble_eq_true rfl) (Nat.le_of_ble_eq_true rfl)
theorem kX0_wears {p : Program} {l : Launch} {e : Env} {R : Room} {s : State} {m : MethodId} {args : Array Value} {below : List Frame} {meth : Method} {c : Code} {H : Heap} {locs : List Loc} {cells slots : Nat} {Q : State → Prop} {cc : ByteArray} {pc : Nat} {ls : Array Slot} {rest : List Value} {nL : Nat} {own : String} {index : Nat} {G : HG} {A : Nat → Prop} {τ : HP} {a0 : Nat} {a1 : Int32} {a2 : Int32} {a3 : Int32} {a4 : Nat} {out_ : Int32 × HH} (hfl : l.stackTraces = false) (hx : p.tables.exec = Jvm.exec) (hb : c.code = cc) (hml : c.maxLocals = nL) (hown : s.vm.findClass own = some m.cls) (hts : ∀ w ∈ lw_all, w.before args s = true) (hC : Hcx G A s) (hW : Hw G A τ H) (hS : va_S A s.heap H locs) (hd : eX0_wears τ a0 a1 a2 a3 a4 = some out_) (hsz : ls.size = nL) (hrm : (rest.map fun v => v.category).sum ≤ 8) (hR : 9 ≤ R.frames ∧ 181 ≤ R.locals) (hcs : (cells + 5) ≤ R.cells ∧ (slots + 126) ≤ R.slots) (hlk : Cond.methodLink own index yX0_wears ∈ lw_all) (hdg : decode cc pc = .ok (.invokestatic index, 3)) (kk : ∀ (u_ : HP) (H1 : Heap) (locs1 : List Loc), u_.1 = out_.2 → Hw G A u_ H1 → va_S A s.heap H1 locs1 → W p l e R s m args below meth c H1 locs1 (cells + 5) (slots + 126) Q (F0 m (pc + 3) ls (.int out_.1 :: rest))) : W p l e R s m args below meth c H locs cells slots Q (F0 m pc ls (.ref a4 :: .int a3 :: .int a2 :: .int a1 :: .ref a0 :: rest)) := by
  refine vx_calli (vx_runSX (As := [.ref a0, .int a1, .int a2, .int a3, .ref a4]) (rest := rest) ⟨hx, hb, hml, hown, hts⟩ (wX0_wears l hfl hd) (vx_cwSW 5 hts (lw_SW hlk q1149 q65 q1150) rfl rfl rfl (by decide +kernel) hR) (hr_preS hC hW hS) rfl rfl hsz rfl (lv_room hrm) hdg hcs) hS (fun _ _ h => h) (fun _ h => h) (fun _ _ h => h) (fun E ce q9 u t H1 locs1 ht hvm hp hB hz hk hS1 hce hvn hfc => by cases hp) (fun r u t H1 locs1 ht hvm hp hB hz hk hS1 => ?_)
  have hp : (r, u.1) = out_ := hp
  subst hp
  have hW1 : Hw G A u t.heap := hB
  rw [ht] at hW1
  exact kk u H1 locs1 rfl hW1 hS1
noncomputable def eX0_find (τ : HP) (a0 : Nat) (a1 : Int32) (a2 : Int32) (a3 : Int32) (a4 : Int32) (a5 : Nat) : Option (Int32 × HH) :=
  wt_ck (hcl τ a0 = some 0) <| wt_bd (eX1_find τ a0 a1 a2 a3 a4) fun w2 => wt_rs w2 (fun o4 => wt_bd (haL o4.2 a5 4) fun z5 => wt_ck (vp_in (0 : Int32) z5.1) <| wt_lt (hst o4.2 a5 (.inl (4, z5.1, .inr (.inl (vp_updL z5.2 (0 : Int32).toNatClampNeg (Int32.toInt64 o4.1)))))) fun τ8 => some ((0 : Int32), τ8.1)) (fun x_ => if x_.1 = 100 then (some ((1 : Int32), x_.2.2.1)) else (none))
set_option maxHeartbeats 4000000 in
theorem wX0_find (l : Launch) (hfl : l.stackTraces = false) {G : HG} {A : Nat → Prop} {τ : HP} {a0 : Nat} {a1 : Int32} {a2 : Int32} {a3 : Int32} {a4 : Int32} {a5 : Nat} {out_ : Int32 × HH} (hd : eX0_find τ a0 a1 a2 a3 a4 a5 = some out_) : vx_Met l yX0_find (wsW_ yX0_find cX0_find 7 (some .int) [(0, 14, 17, 13)]) ({ frames := 8, cells := 3, slots := 42, locals := 187 }) (hPc G A τ [.ref a0, .int a1, .int a2, .int a3, .int a4, .ref a5]) (hXi G A (fun r u => (r, u.1) = out_)) (hXX G A (Sum.inl out_ : (Int32 × HH) ⊕ (Nat × Nat × HP))) 3 42 A := by
  refine vx_ofWH (hh := [(0, 14, 17, 13)]) (cc := cX0_find) (maxL := 7) (ret := (some .int)) (by decide) rfl ?_
  intro p_ e_ s_ m_ args_ below_ meth_ c_ s₁_ B hml hv
  obtain ⟨rfl, hW, hC⟩ := hv
  have hx := B.exec
  have hb := B.bytes
  have hr := B.returns
  have hts := atoms_spec (ws := (wsW_ yX0_find cX0_find 7 (some .int) [(0, 14, 17, 13)])) B.pre
  have hts : ∀ w ∈ lw_all, w.before _ s_ = true := fun w h => hts w (List.mem_cons_of_mem _ h)
  have hown : s_.vm.findClass RX0 = some m_.cls := findClass_of_methodNamed B.named
  have htab : c_.exceptionTable.toList = tableOf [(0, 14, 17, 13)] := vx_table (x := yX0_find) B (hts _ q1157)
  have hlocks := B.notSynchronized
  have hK := hC.1
  have hT := hC.2.1
  have hL := hC.2.2.1
  have hZ := hC.2.2.2.2.1
  have hA := hC.2.2.2.2.2
  have hS : va_S A s_.heap s_.heap [] := va_S.rf
  have hl := lv_entry ([.ref a0, .int a1, .int a2, .int a3, .int a4, .ref a5]) (n := 7) (Nat.le_of_ble_eq_true rfl)
  rw [lg_entry_eq]
  generalize (lg_sl ([.ref a0, .int a1, .int a2, .int a3, .int a4, .ref a5]) ++ List.replicate (7 - (lg_sl ([.ref a0, .int a1, .int a2, .int a3, .int a4, .ref a5])).length) Slot.unset).toArray = ls at hl ⊢
  have hl : lv_has ls 7 [(0, .ref a0), (1, .int a1), (2, .int a2), (3, .int a3), (4, .int a4), (5, .ref a5)] := hl
  unfold eX0_find at hd
  refine lv_aload (pc := 0) hx hb dX0_find_0 (lv_at hl 5 rfl) ?_
  refine lv_iconst (pc := 2) (v := 0) hx hb dX0_find_2 (by decide) ?_
  refine lv_aload_n (pc := 3) hx hb dX0_find_3 rfl (lv_at hl 0 rfl) ?_
  refine lv_iload_n (pc := 4) hx hb dX0_find_4 rfl (lv_at hl 1 rfl) ?_
  refine lv_iload_n (pc := 5) hx hb dX0_find_5 rfl (lv_at hl 2 rfl) ?_
  refine lv_iload_n (pc := 6) hx hb dX0_find_6 rfl (lv_at hl 3 rfl) ?_
  refine lv_iload (pc := 7) hx hb dX0_find_7 (lv_at hl 4 rfl) ?_
  obtain ⟨h1, hd⟩ := wt_ck_o hd
  obtain ⟨w2, hc3, hd⟩ := wt_bd_o hd
  refine kX1_find (pc := 9) hfl hx hb hml hown hts hC hW hS h1 hc3 hl.1 (Nat.le_of_ble_eq_true rfl) ⟨Nat.le_of_ble_eq_true rfl, Nat.le_of_ble_eq_true rfl⟩ ⟨(Nat.le_of_ble_eq_true rfl), (Nat.le_of_ble_eq_true rfl)⟩ q1158 dX0_find_9 (fun x_ hx_ E_ ce_ q9_ H locs hXB hS hce hvn hfc => ?_) (fun o4 ho_ H locs hW hS => ?_)
  · have hd := wt_rs_r hx_ hd
    by_cases c9 : x_.1 = 100
    · have hd := wt_it hd c9
      refine hx_catchJ (name := "java/lang/IllegalArgumentException") 100 hown [] (⟨0, 14, 17, 13⟩ : ExceptionTableEntry) [] (htab.trans rfl) c9 (by decide) rfl (fun y hy => by cases hy) (by decide) (by decide) (hts _ q670) (va_Nw.use rfl (hC.2.1.1 _ (hw_of q187 rfl))) hXB hce hvn hfc (fun hW => ?_)
      refine lv_astore (pc := 17) (lv' := [(6, .ref q9_), (0, .ref a0), (1, .int a1), (2, .int a2), (3, .int a3), (4, .int a4), (5, .ref a5)]) hx hb dX0_find_17 hl (by decide) rfl (fun ls hl => ?_)
      refine lv_iconst (pc := 19) (v := 1) hx hb dX0_find_19 (by decide) ?_
      refine vx_ret ?_
      exact hx_iret (τ := (x_.2.2.1, H.size)) hx hb hr rfl hlocks (Option.some.inj hd) hW hS dX0_find_20 (Nat.le_of_ble_eq_true rfl) (Nat.le_of_ble_eq_true rfl)
    have hd := wt_if hd c9
    exact absurd hd (by intro h; cases h)
  · have hd := wt_rs_l ho_ hd
    refine lv_i2l (pc := 12) hx hb dX0_find_12 rfl ?_
    obtain ⟨z5, h6, hd⟩ := wt_bd_o hd
    obtain ⟨h7, hd⟩ := wt_ck_o hd
    obtain ⟨τ8, eτ8, hd⟩ := wt_lt_o hd
    refine hr_last (pc := 13) hx hb hK hW hS h6 h7 eτ8 dX0_find_13 (fun H locs hW hS => ?_)
    refine lv_goto (pc := 14) (tgt := 21) hx hb dX0_find_14 (by decide) ?_
    refine lv_iconst (pc := 21) (v := 0) hx hb dX0_find_21 (by decide) ?_
    refine vx_ret ?_
    exact hx_iret (τ := τ8) hx hb hr rfl hlocks (Option.some.inj hd) hW hS dX0_find_22 (Nat.le_of_ble_eq_true rfl) (Nat.le_of_ble_eq_true rfl)
theorem kX0_find {p : Program} {l : Launch} {e : Env} {R : Room} {s : State} {m : MethodId} {args : Array Value} {below : List Frame} {meth : Method} {c : Code} {H : Heap} {locs : List Loc} {cells slots : Nat} {Q : State → Prop} {cc : ByteArray} {pc : Nat} {ls : Array Slot} {rest : List Value} {nL : Nat} {own : String} {index : Nat} {G : HG} {A : Nat → Prop} {τ : HP} {a0 : Nat} {a1 : Int32} {a2 : Int32} {a3 : Int32} {a4 : Int32} {a5 : Nat} {out_ : Int32 × HH} (hfl : l.stackTraces = false) (hx : p.tables.exec = Jvm.exec) (hb : c.code = cc) (hml : c.maxLocals = nL) (hown : s.vm.findClass own = some m.cls) (hts : ∀ w ∈ lw_all, w.before args s = true) (hC : Hcx G A s) (hW : Hw G A τ H) (hS : va_S A s.heap H locs) (hd : eX0_find τ a0 a1 a2 a3 a4 a5 = some out_) (hsz : ls.size = nL) (hrm : (rest.map fun v => v.category).sum ≤ 8) (hR : 9 ≤ R.frames ∧ 213 ≤ R.locals) (hcs : (cells + 3) ≤ R.cells ∧ (slots + 42) ≤ R.slots) (hlk : Cond.methodLink own index yX0_find ∈ lw_all) (hdg : decode cc pc = .ok (.invokestatic index, 3)) (kk : ∀ (u_ : HP) (H1 : Heap) (locs1 : List Loc), u_.1 = out_.2 → Hw G A u_ H1 → va_S A s.heap H1 locs1 → W p l e R s m args below meth c H1 locs1 (cells + 3) (slots + 42) Q (F0 m (pc + 3) ls (.int out_.1 :: rest))) : W p l e R s m args below meth c H locs cells slots Q (F0 m pc ls (.ref a5 :: .int a4 :: .int a3 :: .int a2 :: .int a1 :: .ref a0 :: rest)) := by
  refine vx_calli (vx_runSX (As := [.ref a0, .int a1, .int a2, .int a3, .int a4, .ref a5]) (rest := rest) ⟨hx, hb, hml, hown, hts⟩ (wX0_find l hfl hd) (vx_cwSW 6 hts (lw_SW hlk q1156 q65 q1157) rfl rfl rfl (by decide +kernel) hR) (hr_preS hC hW hS) rfl rfl hsz rfl (lv_room hrm) hdg hcs) hS (fun _ _ h => h) (fun _ h => h) (fun _ _ h => h) (fun E ce q9 u t H1 locs1 ht hvm hp hB hz hk hS1 hce hvn hfc => by cases hp) (fun r u t H1 locs1 ht hvm hp hB hz hk hS1 => ?_)
  have hp : (r, u.1) = out_ := hp
  subst hp
  have hW1 : Hw G A u t.heap := hB
  rw [ht] at hW1
  exact kk u H1 locs1 rfl hW1 hS1
noncomputable def eX0_found (τ : HP) (a0 : Nat) (a1 : Int32) (a2 : Int32) (a3 : Nat) : Option (Int32 × HH) :=
  wt_ck (hcl τ a0 = some 0) <| wt_bd (eX1_found τ a0 a1 a2) fun w2 => wt_rs w2 (fun o4 => wt_bd (haL τ a3 4) fun z5 => wt_ck (vp_in (0 : Int32) z5.1) <| wt_lt (hst τ a3 (.inl (4, z5.1, .inr (.inl (vp_updL z5.2 (0 : Int32).toNatClampNeg (Int32.toInt64 o4)))))) fun τ8 => some ((0 : Int32), τ8.1)) (fun x_ => if x_.1 = 102 then (some ((1 : Int32), x_.2.2.1)) else (if x_.1 = 100 then (some ((2 : Int32), x_.2.2.1)) else (none)))
set_option maxHeartbeats 4000000 in
theorem wX0_found (l : Launch) (hfl : l.stackTraces = false) {G : HG} {A : Nat → Prop} {τ : HP} {a0 : Nat} {a1 : Int32} {a2 : Int32} {a3 : Nat} {out_ : Int32 × HH} (hd : eX0_found τ a0 a1 a2 a3 = some out_) : vx_Met l yX0_found (wsW_ yX0_found cX0_found 5 (some .int) [(0, 10, 13, 47), (0, 10, 17, 13)]) ({ frames := 8, cells := 2, slots := 12, locals := 154 }) (hPc G A τ [.ref a0, .int a1, .int a2, .ref a3]) (hXi G A (fun r u => (r, u.1) = out_)) (hXX G A (Sum.inl out_ : (Int32 × HH) ⊕ (Nat × Nat × HP))) 2 12 A := by
  refine vx_ofWH (hh := [(0, 10, 13, 47), (0, 10, 17, 13)]) (cc := cX0_found) (maxL := 5) (ret := (some .int)) (by decide) rfl ?_
  intro p_ e_ s_ m_ args_ below_ meth_ c_ s₁_ B hml hv
  obtain ⟨rfl, hW, hC⟩ := hv
  have hx := B.exec
  have hb := B.bytes
  have hr := B.returns
  have hts := atoms_spec (ws := (wsW_ yX0_found cX0_found 5 (some .int) [(0, 10, 13, 47), (0, 10, 17, 13)])) B.pre
  have hts : ∀ w ∈ lw_all, w.before _ s_ = true := fun w h => hts w (List.mem_cons_of_mem _ h)
  have hown : s_.vm.findClass RX0 = some m_.cls := findClass_of_methodNamed B.named
  have htab : c_.exceptionTable.toList = tableOf [(0, 10, 13, 47), (0, 10, 17, 13)] := vx_table (x := yX0_found) B (hts _ q1191)
  have hlocks := B.notSynchronized
  have hK := hC.1
  have hT := hC.2.1
  have hL := hC.2.2.1
  have hZ := hC.2.2.2.2.1
  have hA := hC.2.2.2.2.2
  have hS : va_S A s_.heap s_.heap [] := va_S.rf
  have hl := lv_entry ([.ref a0, .int a1, .int a2, .ref a3]) (n := 5) (Nat.le_of_ble_eq_true rfl)
  rw [lg_entry_eq]
  generalize (lg_sl ([.ref a0, .int a1, .int a2, .ref a3]) ++ List.replicate (5 - (lg_sl ([.ref a0, .int a1, .int a2, .ref a3])).length) Slot.unset).toArray = ls at hl ⊢
  have hl : lv_has ls 5 [(0, .ref a0), (1, .int a1), (2, .int a2), (3, .ref a3)] := hl
  unfold eX0_found at hd
  refine lv_aload_n (pc := 0) hx hb dX0_found_0 rfl (lv_at hl 3 rfl) ?_
  refine lv_iconst (pc := 1) (v := 0) hx hb dX0_found_1 (by decide) ?_
  refine lv_aload_n (pc := 2) hx hb dX0_found_2 rfl (lv_at hl 0 rfl) ?_
  refine lv_iload_n (pc := 3) hx hb dX0_found_3 rfl (lv_at hl 1 rfl) ?_
  refine lv_iload_n (pc := 4) hx hb dX0_found_4 rfl (lv_at hl 2 rfl) ?_
  obtain ⟨h1, hd⟩ := wt_ck_o hd
  obtain ⟨w2, hc3, hd⟩ := wt_bd_o hd
  refine kX1_found (pc := 5) hfl hx hb hml hown hts hC hW hS h1 hc3 hl.1 (Nat.le_of_ble_eq_true rfl) ⟨Nat.le_of_ble_eq_true rfl, Nat.le_of_ble_eq_true rfl⟩ ⟨(Nat.le_of_ble_eq_true rfl), (Nat.le_of_ble_eq_true rfl)⟩ q1211 dX0_found_5 (fun x_ hx_ E_ ce_ q9_ H locs hXB hS hce hvn hfc => ?_) (fun o4 ho_ H locs hW hS => ?_)
  · have hd := wt_rs_r hx_ hd
    by_cases c9 : x_.1 = 102
    · have hd := wt_it hd c9
      refine hx_catchJ (name := "java/lang/IndexOutOfBoundsException") 102 hown [] (⟨0, 10, 13, 47⟩ : ExceptionTableEntry) [(⟨0, 10, 17, 13⟩ : ExceptionTableEntry)] (htab.trans rfl) c9 (by decide) rfl (fun y hy => by cases hy) (by decide) (by decide) (hts _ q1192) (va_Nw.use rfl (hC.2.1.1 _ (hw_of q1221 rfl))) hXB hce hvn hfc (fun hW => ?_)
      refine lv_astore (pc := 13) (lv' := [(4, .ref q9_), (0, .ref a0), (1, .int a1), (2, .int a2), (3, .ref a3)]) hx hb dX0_found_13 hl (by decide) rfl (fun ls hl => ?_)
      refine lv_iconst (pc := 15) (v := 1) hx hb dX0_found_15 (by decide) ?_
      refine vx_ret ?_
      exact hx_iret (τ := (x_.2.2.1, H.size)) hx hb hr rfl hlocks (Option.some.inj hd) hW hS dX0_found_16 (Nat.le_of_ble_eq_true rfl) (Nat.le_of_ble_eq_true rfl)
    have hd := wt_if hd c9
    by_cases c10 : x_.1 = 100
    · have hd := wt_it hd c10
      refine hx_catchJ (name := "java/lang/IllegalArgumentException") 100 hown [(⟨0, 10, 13, 47⟩ : ExceptionTableEntry)] (⟨0, 10, 17, 13⟩ : ExceptionTableEntry) [] (htab.trans rfl) c10 (by decide) rfl (fun y hy => by rcases List.mem_singleton.mp hy with rfl; exact Or.inr ⟨by decide, _, hts _ q1192, hC.2.2.2.1.2.2.2.2.1⟩) (by decide) (by decide) (hts _ q670) (va_Nw.use rfl (hC.2.1.1 _ (hw_of q187 rfl))) hXB hce hvn hfc (fun hW => ?_)
      refine lv_astore (pc := 17) (lv' := [(4, .ref q9_), (0, .ref a0), (1, .int a1), (2, .int a2), (3, .ref a3)]) hx hb dX0_found_17 hl (by decide) rfl (fun ls hl => ?_)
      refine lv_iconst (pc := 19) (v := 2) hx hb dX0_found_19 (by decide) ?_
      refine vx_ret ?_
      exact hx_iret (τ := (x_.2.2.1, H.size)) hx hb hr rfl hlocks (Option.some.inj hd) hW hS dX0_found_20 (Nat.le_of_ble_eq_true rfl) (Nat.le_of_ble_eq_true rfl)
    have hd := wt_if hd c10
    exact absurd hd (by intro h; cases h)
  · have hd := wt_rs_l ho_ hd
    refine lv_i2l (pc := 8) hx hb dX0_found_8 rfl ?_
    obtain ⟨z5, h6, hd⟩ := wt_bd_o hd
    obtain ⟨h7, hd⟩ := wt_ck_o hd
    obtain ⟨τ8, eτ8, hd⟩ := wt_lt_o hd
    refine hr_last (pc := 9) hx hb hK hW hS h6 h7 eτ8 dX0_found_9 (fun H locs hW hS => ?_)
    refine lv_goto (pc := 10) (tgt := 21) hx hb dX0_found_10 (by decide) ?_
    refine lv_iconst (pc := 21) (v := 0) hx hb dX0_found_21 (by decide) ?_
    refine vx_ret ?_
    exact hx_iret (τ := τ8) hx hb hr rfl hlocks (Option.some.inj hd) hW hS dX0_found_22 (Nat.le_of_ble_eq_true rfl) (Nat.le_of_ble_eq_true rfl)
theorem kX0_found {p : Program} {l : Launch} {e : Env} {R : Room} {s : State} {m : MethodId} {args : Array Value} {below : List Frame} {meth : Method} {c : Code} {H : Heap} {locs : List Loc} {cells slots : Nat} {Q : State → Prop} {cc : ByteArray} {pc : Nat} {ls : Array Slot} {rest : List Value} {nL : Nat} {own : String} {index : Nat} {G : HG} {A : Nat → Prop} {τ : HP} {a0 : Nat} {a1 : Int32} {a2 : Int32} {a3 : Nat} {out_ : Int32 × HH} (hfl : l.stackTraces = false) (hx : p.tables.exec = Jvm.exec) (hb : c.code = cc) (hml : c.maxLocals = nL) (hown : s.vm.findClass own = some m.cls) (hts : ∀ w ∈ lw_all, w.before args s = true) (hC : Hcx G A s) (hW : Hw G A τ H) (hS : va_S A s.heap H locs) (hd : eX0_found τ a0 a1 a2 a3 = some out_) (hsz : ls.size = nL) (hrm : (rest.map fun v => v.category).sum ≤ 8) (hR : 9 ≤ R.frames ∧ 178 ≤ R.locals) (hcs : (cells + 2) ≤ R.cells ∧ (slots + 12) ≤ R.slots) (hlk : Cond.methodLink own index yX0_found ∈ lw_all) (hdg : decode cc pc = .ok (.invokestatic index, 3)) (kk : ∀ (u_ : HP) (H1 : Heap) (locs1 : List Loc), u_.1 = out_.2 → Hw G A u_ H1 → va_S A s.heap H1 locs1 → W p l e R s m args below meth c H1 locs1 (cells + 2) (slots + 12) Q (F0 m (pc + 3) ls (.int out_.1 :: rest))) : W p l e R s m args below meth c H locs cells slots Q (F0 m pc ls (.ref a3 :: .int a2 :: .int a1 :: .ref a0 :: rest)) := by
  refine vx_calli (vx_runSX (As := [.ref a0, .int a1, .int a2, .ref a3]) (rest := rest) ⟨hx, hb, hml, hown, hts⟩ (wX0_found l hfl hd) (vx_cwSW 4 hts (lw_SW hlk q1190 q65 q1191) rfl rfl rfl (by decide +kernel) hR) (hr_preS hC hW hS) rfl rfl hsz rfl (lv_room hrm) hdg hcs) hS (fun _ _ h => h) (fun _ h => h) (fun _ _ h => h) (fun E ce q9 u t H1 locs1 ht hvm hp hB hz hk hS1 hce hvn hfc => by cases hp) (fun r u t H1 locs1 ht hvm hp hB hz hk hS1 => ?_)
  have hp : (r, u.1) = out_ := hp
  subst hp
  have hW1 : Hw G A u t.heap := hB
  rw [ht] at hW1
  exact kk u H1 locs1 rfl hW1 hS1
noncomputable def eX0_drop (τ : HP) (a0 : Nat) (a1 : Int32) (a2 : Nat) : Option (Int32 × HH) :=
  wt_ck (hcl τ a0 = some 0) <| wt_bd (eX1_drop τ a0 a1) fun w2 => wt_rs w2 (fun o4 => wt_bd (haL o4.2 a2 4) fun z5 => wt_ck (vp_in (0 : Int32) z5.1) <| wt_lt (hst o4.2 a2 (.inl (4, z5.1, .inr (.inl (vp_updL z5.2 (0 : Int32).toNatClampNeg (Int32.toInt64 o4.1)))))) fun τ8 => some ((0 : Int32), τ8.1)) (fun x_ => if x_.1 = 102 then (some ((1 : Int32), x_.2.2.1)) else (none))
set_option maxHeartbeats 4000000 in
theorem wX0_drop (l : Launch) (hfl : l.stackTraces = false) {G : HG} {A : Nat → Prop} {τ : HP} {a0 : Nat} {a1 : Int32} {a2 : Nat} {out_ : Int32 × HH} (hd : eX0_drop τ a0 a1 a2 = some out_) : vx_Met l yX0_drop (wsW_ yX0_drop cX0_drop 4 (some .int) [(0, 9, 12, 47)]) ({ frames := 8, cells := 1, slots := 6, locals := 152 }) (hPc G A τ [.ref a0, .int a1, .ref a2]) (hXi G A (fun r u => (r, u.1) = out_)) (hXX G A (Sum.inl out_ : (Int32 × HH) ⊕ (Nat × Nat × HP))) 1 6 A := by
  refine vx_ofWH (hh := [(0, 9, 12, 47)]) (cc := cX0_drop) (maxL := 4) (ret := (some .int)) (by decide) rfl ?_
  intro p_ e_ s_ m_ args_ below_ meth_ c_ s₁_ B hml hv
  obtain ⟨rfl, hW, hC⟩ := hv
  have hx := B.exec
  have hb := B.bytes
  have hr := B.returns
  have hts := atoms_spec (ws := (wsW_ yX0_drop cX0_drop 4 (some .int) [(0, 9, 12, 47)])) B.pre
  have hts : ∀ w ∈ lw_all, w.before _ s_ = true := fun w h => hts w (List.mem_cons_of_mem _ h)
  have hown : s_.vm.findClass RX0 = some m_.cls := findClass_of_methodNamed B.named
  have htab : c_.exceptionTable.toList = tableOf [(0, 9, 12, 47)] := vx_table (x := yX0_drop) B (hts _ q1236)
  have hlocks := B.notSynchronized
  have hK := hC.1
  have hT := hC.2.1
  have hL := hC.2.2.1
  have hZ := hC.2.2.2.2.1
  have hA := hC.2.2.2.2.2
  have hS : va_S A s_.heap s_.heap [] := va_S.rf
  have hl := lv_entry ([.ref a0, .int a1, .ref a2]) (n := 4) (Nat.le_of_ble_eq_true rfl)
  rw [lg_entry_eq]
  generalize (lg_sl ([.ref a0, .int a1, .ref a2]) ++ List.replicate (4 - (lg_sl ([.ref a0, .int a1, .ref a2])).length) Slot.unset).toArray = ls at hl ⊢
  have hl : lv_has ls 4 [(0, .ref a0), (1, .int a1), (2, .ref a2)] := hl
  unfold eX0_drop at hd
  refine lv_aload_n (pc := 0) hx hb dX0_drop_0 rfl (lv_at hl 2 rfl) ?_
  refine lv_iconst (pc := 1) (v := 0) hx hb dX0_drop_1 (by decide) ?_
  refine lv_aload_n (pc := 2) hx hb dX0_drop_2 rfl (lv_at hl 0 rfl) ?_
  refine lv_iload_n (pc := 3) hx hb dX0_drop_3 rfl (lv_at hl 1 rfl) ?_
  obtain ⟨h1, hd⟩ := wt_ck_o hd
  obtain ⟨w2, hc3, hd⟩ := wt_bd_o hd
  refine kX1_drop (pc := 4) hfl hx hb hml hown hts hC hW hS h1 hc3 hl.1 (Nat.le_of_ble_eq_true rfl) ⟨Nat.le_of_ble_eq_true rfl, Nat.le_of_ble_eq_true rfl⟩ ⟨(Nat.le_of_ble_eq_true rfl), (Nat.le_of_ble_eq_true rfl)⟩ q1237 dX0_drop_4 (fun x_ hx_ E_ ce_ q9_ H locs hXB hS hce hvn hfc => ?_) (fun o4 ho_ H locs hW hS => ?_)
  · have hd := wt_rs_r hx_ hd
    by_cases c9 : x_.1 = 102
    · have hd := wt_it hd c9
      refine hx_catchJ (name := "java/lang/IndexOutOfBoundsException") 102 hown [] (⟨0, 9, 12, 47⟩ : ExceptionTableEntry) [] (htab.trans rfl) c9 (by decide) rfl (fun y hy => by cases hy) (by decide) (by decide) (hts _ q1192) (va_Nw.use rfl (hC.2.1.1 _ (hw_of q1221 rfl))) hXB hce hvn hfc (fun hW => ?_)
      refine lv_astore_n (pc := 12) (lv' := [(3, .ref q9_), (0, .ref a0), (1, .int a1), (2, .ref a2)]) hx hb dX0_drop_12 rfl hl (by decide) rfl (fun ls hl => ?_)
      refine lv_iconst (pc := 13) (v := 1) hx hb dX0_drop_13 (by decide) ?_
      refine vx_ret ?_
      exact hx_iret (τ := (x_.2.2.1, H.size)) hx hb hr rfl hlocks (Option.some.inj hd) hW hS dX0_drop_14 (Nat.le_of_ble_eq_true rfl) (Nat.le_of_ble_eq_true rfl)
    have hd := wt_if hd c9
    exact absurd hd (by intro h; cases h)
  · have hd := wt_rs_l ho_ hd
    refine lv_i2l (pc := 7) hx hb dX0_drop_7 rfl ?_
    obtain ⟨z5, h6, hd⟩ := wt_bd_o hd
    obtain ⟨h7, hd⟩ := wt_ck_o hd
    obtain ⟨τ8, eτ8, hd⟩ := wt_lt_o hd
    refine hr_last (pc := 8) hx hb hK hW hS h6 h7 eτ8 dX0_drop_8 (fun H locs hW hS => ?_)
    refine lv_goto (pc := 9) (tgt := 15) hx hb dX0_drop_9 (by decide) ?_
    refine lv_iconst (pc := 15) (v := 0) hx hb dX0_drop_15 (by decide) ?_
    refine vx_ret ?_
    exact hx_iret (τ := τ8) hx hb hr rfl hlocks (Option.some.inj hd) hW hS dX0_drop_16 (Nat.le_of_ble_eq_true rfl) (Nat.le_of_ble_eq_true rfl)
theorem kX0_drop {p : Program} {l : Launch} {e : Env} {R : Room} {s : State} {m : MethodId} {args : Array Value} {below : List Frame} {meth : Method} {c : Code} {H : Heap} {locs : List Loc} {cells slots : Nat} {Q : State → Prop} {cc : ByteArray} {pc : Nat} {ls : Array Slot} {rest : List Value} {nL : Nat} {own : String} {index : Nat} {G : HG} {A : Nat → Prop} {τ : HP} {a0 : Nat} {a1 : Int32} {a2 : Nat} {out_ : Int32 × HH} (hfl : l.stackTraces = false) (hx : p.tables.exec = Jvm.exec) (hb : c.code = cc) (hml : c.maxLocals = nL) (hown : s.vm.findClass own = some m.cls) (hts : ∀ w ∈ lw_all, w.before args s = true) (hC : Hcx G A s) (hW : Hw G A τ H) (hS : va_S A s.heap H locs) (hd : eX0_drop τ a0 a1 a2 = some out_) (hsz : ls.size = nL) (hrm : (rest.map fun v => v.category).sum ≤ 8) (hR : 9 ≤ R.frames ∧ 175 ≤ R.locals) (hcs : (cells + 1) ≤ R.cells ∧ (slots + 6) ≤ R.slots) (hlk : Cond.methodLink own index yX0_drop ∈ lw_all) (hdg : decode cc pc = .ok (.invokestatic index, 3)) (kk : ∀ (u_ : HP) (H1 : Heap) (locs1 : List Loc), u_.1 = out_.2 → Hw G A u_ H1 → va_S A s.heap H1 locs1 → W p l e R s m args below meth c H1 locs1 (cells + 1) (slots + 6) Q (F0 m (pc + 3) ls (.int out_.1 :: rest))) : W p l e R s m args below meth c H locs cells slots Q (F0 m pc ls (.ref a2 :: .int a1 :: .ref a0 :: rest)) := by
  refine vx_calli (vx_runSX (As := [.ref a0, .int a1, .ref a2]) (rest := rest) ⟨hx, hb, hml, hown, hts⟩ (wX0_drop l hfl hd) (vx_cwSW 3 hts (lw_SW hlk q1235 q65 q1236) rfl rfl rfl (by decide +kernel) hR) (hr_preS hC hW hS) rfl rfl hsz rfl (lv_room hrm) hdg hcs) hS (fun _ _ h => h) (fun _ h => h) (fun _ _ h => h) (fun E ce q9 u t H1 locs1 ht hvm hp hB hz hk hS1 hce hvn hfc => by cases hp) (fun r u t H1 locs1 ht hvm hp hB hz hk hS1 => ?_)
  have hp : (r, u.1) = out_ := hp
  subst hp
  have hW1 : Hw G A u t.heap := hB
  rw [ht] at hW1
  exact kk u H1 locs1 rfl hW1 hS1
noncomputable def eX0_scale (τ : HP) (a0 : Nat) (a1 : Int32) (a2 : Nat) : Option (Int32 × HH) :=
  wt_ck (hcl τ a0 = some 0) <| wt_bd (eX1_scale τ a0 a1) fun w2 => wt_rs w2 (fun o4 => wt_bd (haL o4.2 a2 4) fun z5 => wt_ck (vp_in (0 : Int32) z5.1) <| wt_lt (hst o4.2 a2 (.inl (4, z5.1, .inr (.inl (vp_updL z5.2 (0 : Int32).toNatClampNeg (Int32.toInt64 o4.1)))))) fun τ8 => some ((0 : Int32), τ8.1)) (fun x_ => if x_.1 = 101 then (some ((1 : Int32), x_.2.2.1)) else (none))
set_option maxHeartbeats 4000000 in
theorem wX0_scale (l : Launch) (hfl : l.stackTraces = false) {G : HG} {A : Nat → Prop} {τ : HP} {a0 : Nat} {a1 : Int32} {a2 : Nat} {out_ : Int32 × HH} (hd : eX0_scale τ a0 a1 a2 = some out_) : vx_Met l yX0_scale (wsW_ yX0_scale cX0_scale 4 (some .int) [(0, 9, 12, 32)]) ({ frames := 9, cells := 31, slots := 1007, locals := 197 }) (hPc G A τ [.ref a0, .int a1, .ref a2]) (hXi G A (fun r u => (r, u.1) = out_)) (hXX G A (Sum.inl out_ : (Int32 × HH) ⊕ (Nat × Nat × HP))) 31 1007 A := by
  refine vx_ofWH (hh := [(0, 9, 12, 32)]) (cc := cX0_scale) (maxL := 4) (ret := (some .int)) (by decide) rfl ?_
  intro p_ e_ s_ m_ args_ below_ meth_ c_ s₁_ B hml hv
  obtain ⟨rfl, hW, hC⟩ := hv
  have hx := B.exec
  have hb := B.bytes
  have hr := B.returns
  have hts := atoms_spec (ws := (wsW_ yX0_scale cX0_scale 4 (some .int) [(0, 9, 12, 32)])) B.pre
  have hts : ∀ w ∈ lw_all, w.before _ s_ = true := fun w h => hts w (List.mem_cons_of_mem _ h)
  have hown : s_.vm.findClass RX0 = some m_.cls := findClass_of_methodNamed B.named
  have htab : c_.exceptionTable.toList = tableOf [(0, 9, 12, 32)] := vx_table (x := yX0_scale) B (hts _ q1252)
  have hlocks := B.notSynchronized
  have hK := hC.1
  have hT := hC.2.1
  have hL := hC.2.2.1
  have hZ := hC.2.2.2.2.1
  have hA := hC.2.2.2.2.2
  have hS : va_S A s_.heap s_.heap [] := va_S.rf
  have hl := lv_entry ([.ref a0, .int a1, .ref a2]) (n := 4) (Nat.le_of_ble_eq_true rfl)
  rw [lg_entry_eq]
  generalize (lg_sl ([.ref a0, .int a1, .ref a2]) ++ List.replicate (4 - (lg_sl ([.ref a0, .int a1, .ref a2])).length) Slot.unset).toArray = ls at hl ⊢
  have hl : lv_has ls 4 [(0, .ref a0), (1, .int a1), (2, .ref a2)] := hl
  unfold eX0_scale at hd
  refine lv_aload_n (pc := 0) hx hb dX0_scale_0 rfl (lv_at hl 2 rfl) ?_
  refine lv_iconst (pc := 1) (v := 0) hx hb dX0_scale_1 (by decide) ?_
  refine lv_aload_n (pc := 2) hx hb dX0_scale_2 rfl (lv_at hl 0 rfl) ?_
  refine lv_iload_n (pc := 3) hx hb dX0_scale_3 rfl (lv_at hl 1 rfl) ?_
  obtain ⟨h1, hd⟩ := wt_ck_o hd
  obtain ⟨w2, hc3, hd⟩ := wt_bd_o hd
  refine kX1_scale (pc := 4) hfl hx hb hml hown hts hC hW hS h1 hc3 hl.1 (Nat.le_of_ble_eq_true rfl) ⟨Nat.le_of_ble_eq_true rfl, Nat.le_of_ble_eq_true rfl⟩ ⟨(Nat.le_of_ble_eq_true rfl), (Nat.le_of_ble_eq_true rfl)⟩ q1253 dX0_scale_4 (fun x_ hx_ E_ ce_ q9_ H locs hXB hS hce hvn hfc => ?_) (fun o4 ho_ H locs hW hS => ?_)
  · have hd := wt_rs_r hx_ hd
    by_cases c9 : x_.1 = 101
    · have hd := wt_it hd c9
      refine hx_catchJ (name := "java/util/NoSuchElementException") 101 hown [] (⟨0, 9, 12, 32⟩ : ExceptionTableEntry) [] (htab.trans rfl) c9 (by decide) rfl (fun y hy => by cases hy) (by decide) (by decide) (hts _ q998) (va_Nw.use rfl (hC.2.1.1 _ (hw_of q1009 rfl))) hXB hce hvn hfc (fun hW => ?_)
      refine lv_astore_n (pc := 12) (lv' := [(3, .ref q9_), (0, .ref a0), (1, .int a1), (2, .ref a2)]) hx hb dX0_scale_12 rfl hl (by decide) rfl (fun ls hl => ?_)
      refine lv_iconst (pc := 13) (v := 1) hx hb dX0_scale_13 (by decide) ?_
      refine vx_ret ?_
      exact hx_iret (τ := (x_.2.2.1, H.size)) hx hb hr rfl hlocks (Option.some.inj hd) hW hS dX0_scale_14 (Nat.le_of_ble_eq_true rfl) (Nat.le_of_ble_eq_true rfl)
    have hd := wt_if hd c9
    exact absurd hd (by intro h; cases h)
  · have hd := wt_rs_l ho_ hd
    refine lv_i2l (pc := 7) hx hb dX0_scale_7 rfl ?_
    obtain ⟨z5, h6, hd⟩ := wt_bd_o hd
    obtain ⟨h7, hd⟩ := wt_ck_o hd
    obtain ⟨τ8, eτ8, hd⟩ := wt_lt_o hd
    refine hr_last (pc := 8) hx hb hK hW hS h6 h7 eτ8 dX0_scale_8 (fun H locs hW hS => ?_)
    refine lv_goto (pc := 9) (tgt := 15) hx hb dX0_scale_9 (by decide) ?_
    refine lv_iconst (pc := 15) (v := 0) hx hb dX0_scale_15 (by decide) ?_
    refine vx_ret ?_
    exact hx_iret (τ := τ8) hx hb hr rfl hlocks (Option.some.inj hd) hW hS dX0_scale_16 (Nat.le_of_ble_eq_true rfl) (Nat.le_of_ble_eq_true rfl)
theorem kX0_scale {p : Program} {l : Launch} {e : Env} {R : Room} {s : State} {m : MethodId} {args : Array Value} {below : List Frame} {meth : Method} {c : Code} {H : Heap} {locs : List Loc} {cells slots : Nat} {Q : State → Prop} {cc : ByteArray} {pc : Nat} {ls : Array Slot} {rest : List Value} {nL : Nat} {own : String} {index : Nat} {G : HG} {A : Nat → Prop} {τ : HP} {a0 : Nat} {a1 : Int32} {a2 : Nat} {out_ : Int32 × HH} (hfl : l.stackTraces = false) (hx : p.tables.exec = Jvm.exec) (hb : c.code = cc) (hml : c.maxLocals = nL) (hown : s.vm.findClass own = some m.cls) (hts : ∀ w ∈ lw_all, w.before args s = true) (hC : Hcx G A s) (hW : Hw G A τ H) (hS : va_S A s.heap H locs) (hd : eX0_scale τ a0 a1 a2 = some out_) (hsz : ls.size = nL) (hrm : (rest.map fun v => v.category).sum ≤ 8) (hR : 10 ≤ R.frames ∧ 220 ≤ R.locals) (hcs : (cells + 31) ≤ R.cells ∧ (slots + 1007) ≤ R.slots) (hlk : Cond.methodLink own index yX0_scale ∈ lw_all) (hdg : decode cc pc = .ok (.invokestatic index, 3)) (kk : ∀ (u_ : HP) (H1 : Heap) (locs1 : List Loc), u_.1 = out_.2 → Hw G A u_ H1 → va_S A s.heap H1 locs1 → W p l e R s m args below meth c H1 locs1 (cells + 31) (slots + 1007) Q (F0 m (pc + 3) ls (.int out_.1 :: rest))) : W p l e R s m args below meth c H locs cells slots Q (F0 m pc ls (.ref a2 :: .int a1 :: .ref a0 :: rest)) := by
  refine vx_calli (vx_runSX (As := [.ref a0, .int a1, .ref a2]) (rest := rest) ⟨hx, hb, hml, hown, hts⟩ (wX0_scale l hfl hd) (vx_cwSW 3 hts (lw_SW hlk q1251 q65 q1252) rfl rfl rfl (by decide +kernel) hR) (hr_preS hC hW hS) rfl rfl hsz rfl (lv_room hrm) hdg hcs) hS (fun _ _ h => h) (fun _ h => h) (fun _ _ h => h) (fun E ce q9 u t H1 locs1 ht hvm hp hB hz hk hS1 hce hvn hfc => by cases hp) (fun r u t H1 locs1 ht hvm hp hB hz hk hS1 => ?_)
  have hp : (r, u.1) = out_ := hp
  subst hp
  have hW1 : Hw G A u t.heap := hB
  rw [ht] at hW1
  exact kk u H1 locs1 rfl hW1 hS1
noncomputable def eX0_digits (τ : HP) (a0 : Nat) (a1 : Int32) (a2 : Nat) : Option (Int32 × HH) :=
  wt_ck (hcl τ a0 = some 0) <| wt_bd (eX1_digits τ a0 a1) fun w2 => wt_rs w2 (fun o4 => wt_bd (haL o4.2 a2 4) fun z5 => wt_ck (vp_in (0 : Int32) z5.1) <| wt_lt (hst o4.2 a2 (.inl (4, z5.1, .inr (.inl (vp_updL z5.2 (0 : Int32).toNatClampNeg (Int32.toInt64 o4.1)))))) fun τ8 => some ((0 : Int32), τ8.1)) (fun x_ => if x_.1 = 101 then (some ((1 : Int32), x_.2.2.1)) else (none))
set_option maxHeartbeats 4000000 in
theorem wX0_digits (l : Launch) (hfl : l.stackTraces = false) {G : HG} {A : Nat → Prop} {τ : HP} {a0 : Nat} {a1 : Int32} {a2 : Nat} {out_ : Int32 × HH} (hd : eX0_digits τ a0 a1 a2 = some out_) : vx_Met l yX0_digits (wsW_ yX0_digits cX0_digits 4 (some .int) [(0, 9, 12, 32)]) ({ frames := 10, cells := 31, slots := 1307, locals := 221 }) (hPc G A τ [.ref a0, .int a1, .ref a2]) (hXi G A (fun r u => (r, u.1) = out_)) (hXX G A (Sum.inl out_ : (Int32 × HH) ⊕ (Nat × Nat × HP))) 31 1307 A := by
  refine vx_ofWH (hh := [(0, 9, 12, 32)]) (cc := cX0_digits) (maxL := 4) (ret := (some .int)) (by decide) rfl ?_
  intro p_ e_ s_ m_ args_ below_ meth_ c_ s₁_ B hml hv
  obtain ⟨rfl, hW, hC⟩ := hv
  have hx := B.exec
  have hb := B.bytes
  have hr := B.returns
  have hts := atoms_spec (ws := (wsW_ yX0_digits cX0_digits 4 (some .int) [(0, 9, 12, 32)])) B.pre
  have hts : ∀ w ∈ lw_all, w.before _ s_ = true := fun w h => hts w (List.mem_cons_of_mem _ h)
  have hown : s_.vm.findClass RX0 = some m_.cls := findClass_of_methodNamed B.named
  have htab : c_.exceptionTable.toList = tableOf [(0, 9, 12, 32)] := vx_table (x := yX0_digits) B (hts _ q1270)
  have hlocks := B.notSynchronized
  have hK := hC.1
  have hT := hC.2.1
  have hL := hC.2.2.1
  have hZ := hC.2.2.2.2.1
  have hA := hC.2.2.2.2.2
  have hS : va_S A s_.heap s_.heap [] := va_S.rf
  have hl := lv_entry ([.ref a0, .int a1, .ref a2]) (n := 4) (Nat.le_of_ble_eq_true rfl)
  rw [lg_entry_eq]
  generalize (lg_sl ([.ref a0, .int a1, .ref a2]) ++ List.replicate (4 - (lg_sl ([.ref a0, .int a1, .ref a2])).length) Slot.unset).toArray = ls at hl ⊢
  have hl : lv_has ls 4 [(0, .ref a0), (1, .int a1), (2, .ref a2)] := hl
  unfold eX0_digits at hd
  refine lv_aload_n (pc := 0) hx hb dX0_digits_0 rfl (lv_at hl 2 rfl) ?_
  refine lv_iconst (pc := 1) (v := 0) hx hb dX0_digits_1 (by decide) ?_
  refine lv_aload_n (pc := 2) hx hb dX0_digits_2 rfl (lv_at hl 0 rfl) ?_
  refine lv_iload_n (pc := 3) hx hb dX0_digits_3 rfl (lv_at hl 1 rfl) ?_
  obtain ⟨h1, hd⟩ := wt_ck_o hd
  obtain ⟨w2, hc3, hd⟩ := wt_bd_o hd
  refine kX1_digits (pc := 4) hfl hx hb hml hown hts hC hW hS h1 hc3 hl.1 (Nat.le_of_ble_eq_true rfl) ⟨Nat.le_of_ble_eq_true rfl, Nat.le_of_ble_eq_true rfl⟩ ⟨(Nat.le_of_ble_eq_true rfl), (Nat.le_of_ble_eq_true rfl)⟩ q1271 dX0_digits_4 (fun x_ hx_ E_ ce_ q9_ H locs hXB hS hce hvn hfc => ?_) (fun o4 ho_ H locs hW hS => ?_)
  · have hd := wt_rs_r hx_ hd
    by_cases c9 : x_.1 = 101
    · have hd := wt_it hd c9
      refine hx_catchJ (name := "java/util/NoSuchElementException") 101 hown [] (⟨0, 9, 12, 32⟩ : ExceptionTableEntry) [] (htab.trans rfl) c9 (by decide) rfl (fun y hy => by cases hy) (by decide) (by decide) (hts _ q998) (va_Nw.use rfl (hC.2.1.1 _ (hw_of q1009 rfl))) hXB hce hvn hfc (fun hW => ?_)
      refine lv_astore_n (pc := 12) (lv' := [(3, .ref q9_), (0, .ref a0), (1, .int a1), (2, .ref a2)]) hx hb dX0_digits_12 rfl hl (by decide) rfl (fun ls hl => ?_)
      refine lv_iconst (pc := 13) (v := 1) hx hb dX0_digits_13 (by decide) ?_
      refine vx_ret ?_
      exact hx_iret (τ := (x_.2.2.1, H.size)) hx hb hr rfl hlocks (Option.some.inj hd) hW hS dX0_digits_14 (Nat.le_of_ble_eq_true rfl) (Nat.le_of_ble_eq_true rfl)
    have hd := wt_if hd c9
    exact absurd hd (by intro h; cases h)
  · have hd := wt_rs_l ho_ hd
    refine lv_i2l (pc := 7) hx hb dX0_digits_7 rfl ?_
    obtain ⟨z5, h6, hd⟩ := wt_bd_o hd
    obtain ⟨h7, hd⟩ := wt_ck_o hd
    obtain ⟨τ8, eτ8, hd⟩ := wt_lt_o hd
    refine hr_last (pc := 8) hx hb hK hW hS h6 h7 eτ8 dX0_digits_8 (fun H locs hW hS => ?_)
    refine lv_goto (pc := 9) (tgt := 15) hx hb dX0_digits_9 (by decide) ?_
    refine lv_iconst (pc := 15) (v := 0) hx hb dX0_digits_15 (by decide) ?_
    refine vx_ret ?_
    exact hx_iret (τ := τ8) hx hb hr rfl hlocks (Option.some.inj hd) hW hS dX0_digits_16 (Nat.le_of_ble_eq_true rfl) (Nat.le_of_ble_eq_true rfl)
theorem kX0_digits {p : Program} {l : Launch} {e : Env} {R : Room} {s : State} {m : MethodId} {args : Array Value} {below : List Frame} {meth : Method} {c : Code} {H : Heap} {locs : List Loc} {cells slots : Nat} {Q : State → Prop} {cc : ByteArray} {pc : Nat} {ls : Array Slot} {rest : List Value} {nL : Nat} {own : String} {index : Nat} {G : HG} {A : Nat → Prop} {τ : HP} {a0 : Nat} {a1 : Int32} {a2 : Nat} {out_ : Int32 × HH} (hfl : l.stackTraces = false) (hx : p.tables.exec = Jvm.exec) (hb : c.code = cc) (hml : c.maxLocals = nL) (hown : s.vm.findClass own = some m.cls) (hts : ∀ w ∈ lw_all, w.before args s = true) (hC : Hcx G A s) (hW : Hw G A τ H) (hS : va_S A s.heap H locs) (hd : eX0_digits τ a0 a1 a2 = some out_) (hsz : ls.size = nL) (hrm : (rest.map fun v => v.category).sum ≤ 8) (hR : 11 ≤ R.frames ∧ 244 ≤ R.locals) (hcs : (cells + 31) ≤ R.cells ∧ (slots + 1307) ≤ R.slots) (hlk : Cond.methodLink own index yX0_digits ∈ lw_all) (hdg : decode cc pc = .ok (.invokestatic index, 3)) (kk : ∀ (u_ : HP) (H1 : Heap) (locs1 : List Loc), u_.1 = out_.2 → Hw G A u_ H1 → va_S A s.heap H1 locs1 → W p l e R s m args below meth c H1 locs1 (cells + 31) (slots + 1307) Q (F0 m (pc + 3) ls (.int out_.1 :: rest))) : W p l e R s m args below meth c H locs cells slots Q (F0 m pc ls (.ref a2 :: .int a1 :: .ref a0 :: rest)) := by
  refine vx_calli (vx_runSX (As := [.ref a0, .int a1, .ref a2]) (rest := rest) ⟨hx, hb, hml, hown, hts⟩ (wX0_digits l hfl hd) (vx_cwSW 3 hts (lw_SW hlk q1269 q65 q1270) rfl rfl rfl (by decide +kernel) hR) (hr_preS hC hW hS) rfl rfl hsz rfl (lv_room hrm) hdg hcs) hS (fun _ _ h => h) (fun _ h => h) (fun _ _ h => h) (fun E ce q9 u t H1 locs1 ht hvm hp hB hz hk hS1 hce hvn hfc => by cases hp) (fun r u t H1 locs1 ht hvm hp hB hz hk hS1 => ?_)
  have hp : (r, u.1) = out_ := hp
  subst hp
  have hW1 : Hw G A u t.heap := hB
  rw [ht] at hW1
  exact kk u H1 locs1 rfl hW1 hS1
noncomputable def eX0_digit (τ : HP) (a0 : Nat) (a1 : Int32) (a2 : Int32) (a3 : Nat) : Option (Int32 × HH) :=
  wt_ck (hcl τ a0 = some 0) <| wt_bd (eX1_digit τ a0 a1 a2) fun w2 => wt_rs w2 (fun o4 => wt_bd (haL o4.2 a3 4) fun z5 => wt_ck (vp_in (0 : Int32) z5.1) <| wt_lt (hst o4.2 a3 (.inl (4, z5.1, .inr (.inl (vp_updL z5.2 (0 : Int32).toNatClampNeg (Int32.toInt64 o4.1)))))) fun τ8 => some ((0 : Int32), τ8.1)) (fun x_ => if x_.1 = 101 then (some ((1 : Int32), x_.2.2.1)) else (none))
set_option maxHeartbeats 4000000 in
theorem wX0_digit (l : Launch) (hfl : l.stackTraces = false) {G : HG} {A : Nat → Prop} {τ : HP} {a0 : Nat} {a1 : Int32} {a2 : Int32} {a3 : Nat} {out_ : Int32 × HH} (hd : eX0_digit τ a0 a1 a2 a3 = some out_) : vx_Met l yX0_digit (wsW_ yX0_digit cX0_digit 5 (some .int) [(0, 10, 13, 32)]) ({ frames := 10, cells := 31, slots := 1307, locals := 223 }) (hPc G A τ [.ref a0, .int a1, .int a2, .ref a3]) (hXi G A (fun r u => (r, u.1) = out_)) (hXX G A (Sum.inl out_ : (Int32 × HH) ⊕ (Nat × Nat × HP))) 31 1307 A := by
  refine vx_ofWH (hh := [(0, 10, 13, 32)]) (cc := cX0_digit) (maxL := 5) (ret := (some .int)) (by decide) rfl ?_
  intro p_ e_ s_ m_ args_ below_ meth_ c_ s₁_ B hml hv
  obtain ⟨rfl, hW, hC⟩ := hv
  have hx := B.exec
  have hb := B.bytes
  have hr := B.returns
  have hts := atoms_spec (ws := (wsW_ yX0_digit cX0_digit 5 (some .int) [(0, 10, 13, 32)])) B.pre
  have hts : ∀ w ∈ lw_all, w.before _ s_ = true := fun w h => hts w (List.mem_cons_of_mem _ h)
  have hown : s_.vm.findClass RX0 = some m_.cls := findClass_of_methodNamed B.named
  have htab : c_.exceptionTable.toList = tableOf [(0, 10, 13, 32)] := vx_table (x := yX0_digit) B (hts _ q1315)
  have hlocks := B.notSynchronized
  have hK := hC.1
  have hT := hC.2.1
  have hL := hC.2.2.1
  have hZ := hC.2.2.2.2.1
  have hA := hC.2.2.2.2.2
  have hS : va_S A s_.heap s_.heap [] := va_S.rf
  have hl := lv_entry ([.ref a0, .int a1, .int a2, .ref a3]) (n := 5) (Nat.le_of_ble_eq_true rfl)
  rw [lg_entry_eq]
  generalize (lg_sl ([.ref a0, .int a1, .int a2, .ref a3]) ++ List.replicate (5 - (lg_sl ([.ref a0, .int a1, .int a2, .ref a3])).length) Slot.unset).toArray = ls at hl ⊢
  have hl : lv_has ls 5 [(0, .ref a0), (1, .int a1), (2, .int a2), (3, .ref a3)] := hl
  unfold eX0_digit at hd
  refine lv_aload_n (pc := 0) hx hb dX0_digit_0 rfl (lv_at hl 3 rfl) ?_
  refine lv_iconst (pc := 1) (v := 0) hx hb dX0_digit_1 (by decide) ?_
  refine lv_aload_n (pc := 2) hx hb dX0_digit_2 rfl (lv_at hl 0 rfl) ?_
  refine lv_iload_n (pc := 3) hx hb dX0_digit_3 rfl (lv_at hl 1 rfl) ?_
  refine lv_iload_n (pc := 4) hx hb dX0_digit_4 rfl (lv_at hl 2 rfl) ?_
  obtain ⟨h1, hd⟩ := wt_ck_o hd
  obtain ⟨w2, hc3, hd⟩ := wt_bd_o hd
  refine kX1_digit (pc := 5) hfl hx hb hml hown hts hC hW hS h1 hc3 hl.1 (Nat.le_of_ble_eq_true rfl) ⟨Nat.le_of_ble_eq_true rfl, Nat.le_of_ble_eq_true rfl⟩ ⟨(Nat.le_of_ble_eq_true rfl), (Nat.le_of_ble_eq_true rfl)⟩ q1316 dX0_digit_5 (fun x_ hx_ E_ ce_ q9_ H locs hXB hS hce hvn hfc => ?_) (fun o4 ho_ H locs hW hS => ?_)
  · have hd := wt_rs_r hx_ hd
    by_cases c9 : x_.1 = 101
    · have hd := wt_it hd c9
      refine hx_catchJ (name := "java/util/NoSuchElementException") 101 hown [] (⟨0, 10, 13, 32⟩ : ExceptionTableEntry) [] (htab.trans rfl) c9 (by decide) rfl (fun y hy => by cases hy) (by decide) (by decide) (hts _ q998) (va_Nw.use rfl (hC.2.1.1 _ (hw_of q1009 rfl))) hXB hce hvn hfc (fun hW => ?_)
      refine lv_astore (pc := 13) (lv' := [(4, .ref q9_), (0, .ref a0), (1, .int a1), (2, .int a2), (3, .ref a3)]) hx hb dX0_digit_13 hl (by decide) rfl (fun ls hl => ?_)
      refine lv_iconst (pc := 15) (v := 1) hx hb dX0_digit_15 (by decide) ?_
      refine vx_ret ?_
      exact hx_iret (τ := (x_.2.2.1, H.size)) hx hb hr rfl hlocks (Option.some.inj hd) hW hS dX0_digit_16 (Nat.le_of_ble_eq_true rfl) (Nat.le_of_ble_eq_true rfl)
    have hd := wt_if hd c9
    exact absurd hd (by intro h; cases h)
  · have hd := wt_rs_l ho_ hd
    refine lv_i2l (pc := 8) hx hb dX0_digit_8 rfl ?_
    obtain ⟨z5, h6, hd⟩ := wt_bd_o hd
    obtain ⟨h7, hd⟩ := wt_ck_o hd
    obtain ⟨τ8, eτ8, hd⟩ := wt_lt_o hd
    refine hr_last (pc := 9) hx hb hK hW hS h6 h7 eτ8 dX0_digit_9 (fun H locs hW hS => ?_)
    refine lv_goto (pc := 10) (tgt := 17) hx hb dX0_digit_10 (by decide) ?_
    refine lv_iconst (pc := 17) (v := 0) hx hb dX0_digit_17 (by decide) ?_
    refine vx_ret ?_
    exact hx_iret (τ := τ8) hx hb hr rfl hlocks (Option.some.inj hd) hW hS dX0_digit_18 (Nat.le_of_ble_eq_true rfl) (Nat.le_of_ble_eq_true rfl)
theorem kX0_digit {p : Program} {l : Launch} {e : Env} {R : Room} {s : State} {m : MethodId} {args : Array Value} {below : List Frame} {meth : Method} {c : Code} {H : Heap} {locs : List Loc} {cells slots : Nat} {Q : State → Prop} {cc : ByteArray} {pc : Nat} {ls : Array Slot} {rest : List Value} {nL : Nat} {own : String} {index : Nat} {G : HG} {A : Nat → Prop} {τ : HP} {a0 : Nat} {a1 : Int32} {a2 : Int32} {a3 : Nat} {out_ : Int32 × HH} (hfl : l.stackTraces = false) (hx : p.tables.exec = Jvm.exec) (hb : c.code = cc) (hml : c.maxLocals = nL) (hown : s.vm.findClass own = some m.cls) (hts : ∀ w ∈ lw_all, w.before args s = true) (hC : Hcx G A s) (hW : Hw G A τ H) (hS : va_S A s.heap H locs) (hd : eX0_digit τ a0 a1 a2 a3 = some out_) (hsz : ls.size = nL) (hrm : (rest.map fun v => v.category).sum ≤ 8) (hR : 11 ≤ R.frames ∧ 247 ≤ R.locals) (hcs : (cells + 31) ≤ R.cells ∧ (slots + 1307) ≤ R.slots) (hlk : Cond.methodLink own index yX0_digit ∈ lw_all) (hdg : decode cc pc = .ok (.invokestatic index, 3)) (kk : ∀ (u_ : HP) (H1 : Heap) (locs1 : List Loc), u_.1 = out_.2 → Hw G A u_ H1 → va_S A s.heap H1 locs1 → W p l e R s m args below meth c H1 locs1 (cells + 31) (slots + 1307) Q (F0 m (pc + 3) ls (.int out_.1 :: rest))) : W p l e R s m args below meth c H locs cells slots Q (F0 m pc ls (.ref a3 :: .int a2 :: .int a1 :: .ref a0 :: rest)) := by
  refine vx_calli (vx_runSX (As := [.ref a0, .int a1, .int a2, .ref a3]) (rest := rest) ⟨hx, hb, hml, hown, hts⟩ (wX0_digit l hfl hd) (vx_cwSW 4 hts (lw_SW hlk q1314 q65 q1315) rfl rfl rfl (by decide +kernel) hR) (hr_preS hC hW hS) rfl rfl hsz rfl (lv_room hrm) hdg hcs) hS (fun _ _ h => h) (fun _ h => h) (fun _ _ h => h) (fun E ce q9 u t H1 locs1 ht hvm hp hB hz hk hS1 hce hvn hfc => by cases hp) (fun r u t H1 locs1 ht hvm hp hB hz hk hS1 => ?_)
  have hp : (r, u.1) = out_ := hp
  subst hp
  have hW1 : Hw G A u t.heap := hB
  rw [ht] at hW1
  exact kk u H1 locs1 rfl hW1 hS1
noncomputable def eX0_weighed (τ : HP) (a0 : Nat) (a1 : Int32) (a2 : Int32) (a3 : Nat) : Option (Int32 × HH) :=
  wt_ck (hcl τ a0 = some 0) <| wt_bd (eX1_weighed τ a0 a1 a2) fun w2 => wt_rs w2 (fun o4 => wt_bd (haL o4.2 a3 4) fun z5 => wt_ck (vp_in (0 : Int32) z5.1) <| wt_lt (hst o4.2 a3 (.inl (4, z5.1, .inr (.inl (vp_updL z5.2 (0 : Int32).toNatClampNeg (Int32.toInt64 o4.1)))))) fun τ8 => some ((0 : Int32), τ8.1)) (fun x_ => if x_.1 = 101 then (some ((1 : Int32), x_.2.2.1)) else (none))
set_option maxHeartbeats 4000000 in
theorem wX0_weighed (l : Launch) (hfl : l.stackTraces = false) {G : HG} {A : Nat → Prop} {τ : HP} {a0 : Nat} {a1 : Int32} {a2 : Int32} {a3 : Nat} {out_ : Int32 × HH} (hd : eX0_weighed τ a0 a1 a2 a3 = some out_) : vx_Met l yX0_weighed (wsW_ yX0_weighed cX0_weighed 5 (some .int) [(0, 10, 13, 32)]) ({ frames := 11, cells := 122, slots := 4614, locals := 248 }) (hPc G A τ [.ref a0, .int a1, .int a2, .ref a3]) (hXi G A (fun r u => (r, u.1) = out_)) (hXX G A (Sum.inl out_ : (Int32 × HH) ⊕ (Nat × Nat × HP))) 122 4614 A := by
  refine vx_ofWH (hh := [(0, 10, 13, 32)]) (cc := cX0_weighed) (maxL := 5) (ret := (some .int)) (by decide) rfl ?_
  intro p_ e_ s_ m_ args_ below_ meth_ c_ s₁_ B hml hv
  obtain ⟨rfl, hW, hC⟩ := hv
  have hx := B.exec
  have hb := B.bytes
  have hr := B.returns
  have hts := atoms_spec (ws := (wsW_ yX0_weighed cX0_weighed 5 (some .int) [(0, 10, 13, 32)])) B.pre
  have hts : ∀ w ∈ lw_all, w.before _ s_ = true := fun w h => hts w (List.mem_cons_of_mem _ h)
  have hown : s_.vm.findClass RX0 = some m_.cls := findClass_of_methodNamed B.named
  have htab : c_.exceptionTable.toList = tableOf [(0, 10, 13, 32)] := vx_table (x := yX0_weighed) B (hts _ q1326)
  have hlocks := B.notSynchronized
  have hK := hC.1
  have hT := hC.2.1
  have hL := hC.2.2.1
  have hZ := hC.2.2.2.2.1
  have hA := hC.2.2.2.2.2
  have hS : va_S A s_.heap s_.heap [] := va_S.rf
  have hl := lv_entry ([.ref a0, .int a1, .int a2, .ref a3]) (n := 5) (Nat.le_of_ble_eq_true rfl)
  rw [lg_entry_eq]
  generalize (lg_sl ([.ref a0, .int a1, .int a2, .ref a3]) ++ List.replicate (5 - (lg_sl ([.ref a0, .int a1, .int a2, .ref a3])).length) Slot.unset).toArray = ls at hl ⊢
  have hl : lv_has ls 5 [(0, .ref a0), (1, .int a1), (2, .int a2), (3, .ref a3)] := hl
  unfold eX0_weighed at hd
  refine lv_aload_n (pc := 0) hx hb dX0_weighed_0 rfl (lv_at hl 3 rfl) ?_
  refine lv_iconst (pc := 1) (v := 0) hx hb dX0_weighed_1 (by decide) ?_
  refine lv_aload_n (pc := 2) hx hb dX0_weighed_2 rfl (lv_at hl 0 rfl) ?_
  refine lv_iload_n (pc := 3) hx hb dX0_weighed_3 rfl (lv_at hl 1 rfl) ?_
  refine lv_iload_n (pc := 4) hx hb dX0_weighed_4 rfl (lv_at hl 2 rfl) ?_
  obtain ⟨h1, hd⟩ := wt_ck_o hd
  obtain ⟨w2, hc3, hd⟩ := wt_bd_o hd
  refine kX1_weighed (pc := 5) hfl hx hb hml hown hts hC hW hS h1 hc3 hl.1 (Nat.le_of_ble_eq_true rfl) ⟨Nat.le_of_ble_eq_true rfl, Nat.le_of_ble_eq_true rfl⟩ ⟨(Nat.le_of_ble_eq_true rfl), (Nat.le_of_ble_eq_true rfl)⟩ q1327 dX0_weighed_5 (fun x_ hx_ E_ ce_ q9_ H locs hXB hS hce hvn hfc => ?_) (fun o4 ho_ H locs hW hS => ?_)
  · have hd := wt_rs_r hx_ hd
    by_cases c9 : x_.1 = 101
    · have hd := wt_it hd c9
      refine hx_catchJ (name := "java/util/NoSuchElementException") 101 hown [] (⟨0, 10, 13, 32⟩ : ExceptionTableEntry) [] (htab.trans rfl) c9 (by decide) rfl (fun y hy => by cases hy) (by decide) (by decide) (hts _ q998) (va_Nw.use rfl (hC.2.1.1 _ (hw_of q1009 rfl))) hXB hce hvn hfc (fun hW => ?_)
      refine lv_astore (pc := 13) (lv' := [(4, .ref q9_), (0, .ref a0), (1, .int a1), (2, .int a2), (3, .ref a3)]) hx hb dX0_weighed_13 hl (by decide) rfl (fun ls hl => ?_)
      refine lv_iconst (pc := 15) (v := 1) hx hb dX0_weighed_15 (by decide) ?_
      refine vx_ret ?_
      exact hx_iret (τ := (x_.2.2.1, H.size)) hx hb hr rfl hlocks (Option.some.inj hd) hW hS dX0_weighed_16 (Nat.le_of_ble_eq_true rfl) (Nat.le_of_ble_eq_true rfl)
    have hd := wt_if hd c9
    exact absurd hd (by intro h; cases h)
  · have hd := wt_rs_l ho_ hd
    refine lv_i2l (pc := 8) hx hb dX0_weighed_8 rfl ?_
    obtain ⟨z5, h6, hd⟩ := wt_bd_o hd
    obtain ⟨h7, hd⟩ := wt_ck_o hd
    obtain ⟨τ8, eτ8, hd⟩ := wt_lt_o hd
    refine hr_last (pc := 9) hx hb hK hW hS h6 h7 eτ8 dX0_weighed_9 (fun H locs hW hS => ?_)
    refine lv_goto (pc := 10) (tgt := 17) hx hb dX0_weighed_10 (by decide) ?_
    refine lv_iconst (pc := 17) (v := 0) hx hb dX0_weighed_17 (by decide) ?_
    refine vx_ret ?_
    exact hx_iret (τ := τ8) hx hb hr rfl hlocks (Option.some.inj hd) hW hS dX0_weighed_18 (Nat.le_of_ble_eq_true rfl) (Nat.le_of_ble_eq_true rfl)
theorem kX0_weighed {p : Program} {l : Launch} {e : Env} {R : Room} {s : State} {m : MethodId} {args : Array Value} {below : List Frame} {meth : Method} {c : Code} {H : Heap} {locs : List Loc} {cells slots : Nat} {Q : State → Prop} {cc : ByteArray} {pc : Nat} {ls : Array Slot} {rest : List Value} {nL : Nat} {own : String} {index : Nat} {G : HG} {A : Nat → Prop} {τ : HP} {a0 : Nat} {a1 : Int32} {a2 : Int32} {a3 : Nat} {out_ : Int32 × HH} (hfl : l.stackTraces = false) (hx : p.tables.exec = Jvm.exec) (hb : c.code = cc) (hml : c.maxLocals = nL) (hown : s.vm.findClass own = some m.cls) (hts : ∀ w ∈ lw_all, w.before args s = true) (hC : Hcx G A s) (hW : Hw G A τ H) (hS : va_S A s.heap H locs) (hd : eX0_weighed τ a0 a1 a2 a3 = some out_) (hsz : ls.size = nL) (hrm : (rest.map fun v => v.category).sum ≤ 8) (hR : 12 ≤ R.frames ∧ 272 ≤ R.locals) (hcs : (cells + 122) ≤ R.cells ∧ (slots + 4614) ≤ R.slots) (hlk : Cond.methodLink own index yX0_weighed ∈ lw_all) (hdg : decode cc pc = .ok (.invokestatic index, 3)) (kk : ∀ (u_ : HP) (H1 : Heap) (locs1 : List Loc), u_.1 = out_.2 → Hw G A u_ H1 → va_S A s.heap H1 locs1 → W p l e R s m args below meth c H1 locs1 (cells + 122) (slots + 4614) Q (F0 m (pc + 3) ls (.int out_.1 :: rest))) : W p l e R s m args below meth c H locs cells slots Q (F0 m pc ls (.ref a3 :: .int a2 :: .int a1 :: .ref a0 :: rest)) := by
  refine vx_calli (vx_runSX (As := [.ref a0, .int a1, .int a2, .ref a3]) (rest := rest) ⟨hx, hb, hml, hown, hts⟩ (wX0_weighed l hfl hd) (vx_cwSW 4 hts (lw_SW hlk q1325 q65 q1326) rfl rfl rfl (by decide +kernel) hR) (hr_preS hC hW hS) rfl rfl hsz rfl (lv_room hrm) hdg hcs) hS (fun _ _ h => h) (fun _ h => h) (fun _ _ h => h) (fun E ce q9 u t H1 locs1 ht hvm hp hB hz hk hS1 hce hvn hfc => by cases hp) (fun r u t H1 locs1 ht hvm hp hB hz hk hS1 => ?_)
  have hp : (r, u.1) = out_ := hp
  subst hp
  have hW1 : Hw G A u t.heap := hB
  rw [ht] at hW1
  exact kk u H1 locs1 rfl hW1 hS1
noncomputable def eX0_worth (τ : HP) (a0 : Nat) (a1 : Int32) (a2 : Int32) (a3 : Nat) : Option (Int32 × HH) :=
  wt_ck (hcl τ a0 = some 0) <| wt_bd (eX1_worth τ a0 a1 a2) fun w2 => wt_rs w2 (fun o4 => wt_bd (haL o4.2 a3 4) fun z5 => wt_ck (vp_in (0 : Int32) z5.1) <| wt_lt (hst o4.2 a3 (.inl (4, z5.1, .inr (.inl (vp_updL z5.2 (0 : Int32).toNatClampNeg (Int32.toInt64 o4.1)))))) fun τ8 => some ((0 : Int32), τ8.1)) (fun x_ => if x_.1 = 101 then (some ((1 : Int32), x_.2.2.1)) else (none))
set_option maxHeartbeats 4000000 in
theorem wX0_worth (l : Launch) (hfl : l.stackTraces = false) {G : HG} {A : Nat → Prop} {τ : HP} {a0 : Nat} {a1 : Int32} {a2 : Int32} {a3 : Nat} {out_ : Int32 × HH} (hd : eX0_worth τ a0 a1 a2 a3 = some out_) : vx_Met l yX0_worth (wsW_ yX0_worth cX0_worth 5 (some .int) [(0, 10, 13, 32)]) ({ frames := 12, cells := 124, slots := 4926, locals := 276 }) (hPc G A τ [.ref a0, .int a1, .int a2, .ref a3]) (hXi G A (fun r u => (r, u.1) = out_)) (hXX G A (Sum.inl out_ : (Int32 × HH) ⊕ (Nat × Nat × HP))) 124 4926 A := by
  refine vx_ofWH (hh := [(0, 10, 13, 32)]) (cc := cX0_worth) (maxL := 5) (ret := (some .int)) (by decide) rfl ?_
  intro p_ e_ s_ m_ args_ below_ meth_ c_ s₁_ B hml hv
  obtain ⟨rfl, hW, hC⟩ := hv
  have hx := B.exec
  have hb := B.bytes
  have hr := B.returns
  have hts := atoms_spec (ws := (wsW_ yX0_worth cX0_worth 5 (some .int) [(0, 10, 13, 32)])) B.pre
  have hts : ∀ w ∈ lw_all, w.before _ s_ = true := fun w h => hts w (List.mem_cons_of_mem _ h)
  have hown : s_.vm.findClass RX0 = some m_.cls := findClass_of_methodNamed B.named
  have htab : c_.exceptionTable.toList = tableOf [(0, 10, 13, 32)] := vx_table (x := yX0_worth) B (hts _ q1341)
  have hlocks := B.notSynchronized
  have hK := hC.1
  have hT := hC.2.1
  have hL := hC.2.2.1
  have hZ := hC.2.2.2.2.1
  have hA := hC.2.2.2.2.2
  have hS : va_S A s_.heap s_.heap [] := va_S.rf
  have hl := lv_entry ([.ref a0, .int a1, .int a2, .ref a3]) (n := 5) (Nat.le_of_ble_eq_true rfl)
  rw [lg_entry_eq]
  generalize (lg_sl ([.ref a0, .int a1, .int a2, .ref a3]) ++ List.replicate (5 - (lg_sl ([.ref a0, .int a1, .int a2, .ref a3])).length) Slot.unset).toArray = ls at hl ⊢
  have hl : lv_has ls 5 [(0, .ref a0), (1, .int a1), (2, .int a2), (3, .ref a3)] := hl
  unfold eX0_worth at hd
  refine lv_aload_n (pc := 0) hx hb dX0_worth_0 rfl (lv_at hl 3 rfl) ?_
  refine lv_iconst (pc := 1) (v := 0) hx hb dX0_worth_1 (by decide) ?_
  refine lv_aload_n (pc := 2) hx hb dX0_worth_2 rfl (lv_at hl 0 rfl) ?_
  refine lv_iload_n (pc := 3) hx hb dX0_worth_3 rfl (lv_at hl 1 rfl) ?_
  refine lv_iload_n (pc := 4) hx hb dX0_worth_4 rfl (lv_at hl 2 rfl) ?_
  obtain ⟨h1, hd⟩ := wt_ck_o hd
  obtain ⟨w2, hc3, hd⟩ := wt_bd_o hd
  refine kX1_worth (pc := 5) hfl hx hb hml hown hts hC hW hS h1 hc3 hl.1 (Nat.le_of_ble_eq_true rfl) ⟨Nat.le_of_ble_eq_true rfl, Nat.le_of_ble_eq_true rfl⟩ ⟨(Nat.le_of_ble_eq_true rfl), (Nat.le_of_ble_eq_true rfl)⟩ q1342 dX0_worth_5 (fun x_ hx_ E_ ce_ q9_ H locs hXB hS hce hvn hfc => ?_) (fun o4 ho_ H locs hW hS => ?_)
  · have hd := wt_rs_r hx_ hd
    by_cases c9 : x_.1 = 101
    · have hd := wt_it hd c9
      refine hx_catchJ (name := "java/util/NoSuchElementException") 101 hown [] (⟨0, 10, 13, 32⟩ : ExceptionTableEntry) [] (htab.trans rfl) c9 (by decide) rfl (fun y hy => by cases hy) (by decide) (by decide) (hts _ q998) (va_Nw.use rfl (hC.2.1.1 _ (hw_of q1009 rfl))) hXB hce hvn hfc (fun hW => ?_)
      refine lv_astore (pc := 13) (lv' := [(4, .ref q9_), (0, .ref a0), (1, .int a1), (2, .int a2), (3, .ref a3)]) hx hb dX0_worth_13 hl (by decide) rfl (fun ls hl => ?_)
      refine lv_iconst (pc := 15) (v := 1) hx hb dX0_worth_15 (by decide) ?_
      refine vx_ret ?_
      exact hx_iret (τ := (x_.2.2.1, H.size)) hx hb hr rfl hlocks (Option.some.inj hd) hW hS dX0_worth_16 (Nat.le_of_ble_eq_true rfl) (Nat.le_of_ble_eq_true rfl)
    have hd := wt_if hd c9
    exact absurd hd (by intro h; cases h)
  · have hd := wt_rs_l ho_ hd
    refine lv_i2l (pc := 8) hx hb dX0_worth_8 rfl ?_
    obtain ⟨z5, h6, hd⟩ := wt_bd_o hd
    obtain ⟨h7, hd⟩ := wt_ck_o hd
    obtain ⟨τ8, eτ8, hd⟩ := wt_lt_o hd
    refine hr_last (pc := 9) hx hb hK hW hS h6 h7 eτ8 dX0_worth_9 (fun H locs hW hS => ?_)
    refine lv_goto (pc := 10) (tgt := 17) hx hb dX0_worth_10 (by decide) ?_
    refine lv_iconst (pc := 17) (v := 0) hx hb dX0_worth_17 (by decide) ?_
    refine vx_ret ?_
    exact hx_iret (τ := τ8) hx hb hr rfl hlocks (Option.some.inj hd) hW hS dX0_worth_18 (Nat.le_of_ble_eq_true rfl) (Nat.le_of_ble_eq_true rfl)
theorem kX0_worth {p : Program} {l : Launch} {e : Env} {R : Room} {s : State} {m : MethodId} {args : Array Value} {below : List Frame} {meth : Method} {c : Code} {H : Heap} {locs : List Loc} {cells slots : Nat} {Q : State → Prop} {cc : ByteArray} {pc : Nat} {ls : Array Slot} {rest : List Value} {nL : Nat} {own : String} {index : Nat} {G : HG} {A : Nat → Prop} {τ : HP} {a0 : Nat} {a1 : Int32} {a2 : Int32} {a3 : Nat} {out_ : Int32 × HH} (hfl : l.stackTraces = false) (hx : p.tables.exec = Jvm.exec) (hb : c.code = cc) (hml : c.maxLocals = nL) (hown : s.vm.findClass own = some m.cls) (hts : ∀ w ∈ lw_all, w.before args s = true) (hC : Hcx G A s) (hW : Hw G A τ H) (hS : va_S A s.heap H locs) (hd : eX0_worth τ a0 a1 a2 a3 = some out_) (hsz : ls.size = nL) (hrm : (rest.map fun v => v.category).sum ≤ 8) (hR : 13 ≤ R.frames ∧ 300 ≤ R.locals) (hcs : (cells + 124) ≤ R.cells ∧ (slots + 4926) ≤ R.slots) (hlk : Cond.methodLink own index yX0_worth ∈ lw_all) (hdg : decode cc pc = .ok (.invokestatic index, 3)) (kk : ∀ (u_ : HP) (H1 : Heap) (locs1 : List Loc), u_.1 = out_.2 → Hw G A u_ H1 → va_S A s.heap H1 locs1 → W p l e R s m args below meth c H1 locs1 (cells + 124) (slots + 4926) Q (F0 m (pc + 3) ls (.int out_.1 :: rest))) : W p l e R s m args below meth c H locs cells slots Q (F0 m pc ls (.ref a3 :: .int a2 :: .int a1 :: .ref a0 :: rest)) := by
  refine vx_calli (vx_runSX (As := [.ref a0, .int a1, .int a2, .ref a3]) (rest := rest) ⟨hx, hb, hml, hown, hts⟩ (wX0_worth l hfl hd) (vx_cwSW 4 hts (lw_SW hlk q1340 q65 q1341) rfl rfl rfl (by decide +kernel) hR) (hr_preS hC hW hS) rfl rfl hsz rfl (lv_room hrm) hdg hcs) hS (fun _ _ h => h) (fun _ h => h) (fun _ _ h => h) (fun E ce q9 u t H1 locs1 ht hvm hp hB hz hk hS1 hce hvn hfc => by cases hp) (fun r u t H1 locs1 ht hvm hp hB hz hk hS1 => ?_)
  have hp : (r, u.1) = out_ := hp
  subst hp
  have hW1 : Hw G A u t.heap := hB
  rw [ht] at hW1
  exact kk u H1 locs1 rfl hW1 hS1
noncomputable def eX0_part (τ : HP) (a0 : Nat) (a1 : Int32) (a2 : Int32) (a3 : Int32) (a4 : Nat) : Option (Int32 × HH) :=
  wt_ck (hcl τ a0 = some 0) <| wt_bd (eX1_part τ a0 a1 a2 a3) fun w2 => wt_rs w2 (fun o4 => wt_bd (haL o4.2 a4 4) fun z5 => wt_ck (vp_in (0 : Int32) z5.1) <| wt_lt (hst o4.2 a4 (.inl (4, z5.1, .inr (.inl (vp_updL z5.2 (0 : Int32).toNatClampNeg (Int32.toInt64 o4.1)))))) fun τ8 => some ((0 : Int32), τ8.1)) (fun x_ => if x_.1 = 101 then (some ((1 : Int32), x_.2.2.1)) else (if x_.1 = 102 then (some ((2 : Int32), x_.2.2.1)) else (none)))
set_option maxHeartbeats 4000000 in
theorem wX0_part (l : Launch) (hfl : l.stackTraces = false) {G : HG} {A : Nat → Prop} {τ : HP} {a0 : Nat} {a1 : Int32} {a2 : Int32} {a3 : Int32} {a4 : Nat} {out_ : Int32 × HH} (hd : eX0_part τ a0 a1 a2 a3 a4 = some out_) : vx_Met l yX0_part (wsW_ yX0_part cX0_part 6 (some .int) [(0, 12, 15, 32), (0, 12, 19, 47)]) ({ frames := 12, cells := 125, slots := 4932, locals := 277 }) (hPc G A τ [.ref a0, .int a1, .int a2, .int a3, .ref a4]) (hXi G A (fun r u => (r, u.1) = out_)) (hXX G A (Sum.inl out_ : (Int32 × HH) ⊕ (Nat × Nat × HP))) 125 4932 A := by
  refine vx_ofWH (hh := [(0, 12, 15, 32), (0, 12, 19, 47)]) (cc := cX0_part) (maxL := 6) (ret := (some .int)) (by decide) rfl ?_
  intro p_ e_ s_ m_ args_ below_ meth_ c_ s₁_ B hml hv
  obtain ⟨rfl, hW, hC⟩ := hv
  have hx := B.exec
  have hb := B.bytes
  have hr := B.returns
  have hts := atoms_spec (ws := (wsW_ yX0_part cX0_part 6 (some .int) [(0, 12, 15, 32), (0, 12, 19, 47)])) B.pre
  have hts : ∀ w ∈ lw_all, w.before _ s_ = true := fun w h => hts w (List.mem_cons_of_mem _ h)
  have hown : s_.vm.findClass RX0 = some m_.cls := findClass_of_methodNamed B.named
  have htab : c_.exceptionTable.toList = tableOf [(0, 12, 15, 32), (0, 12, 19, 47)] := vx_table (x := yX0_part) B (hts _ q1363)
  have hlocks := B.notSynchronized
  have hK := hC.1
  have hT := hC.2.1
  have hL := hC.2.2.1
  have hZ := hC.2.2.2.2.1
  have hA := hC.2.2.2.2.2
  have hS : va_S A s_.heap s_.heap [] := va_S.rf
  have hl := lv_entry ([.ref a0, .int a1, .int a2, .int a3, .ref a4]) (n := 6) (Nat.le_of_ble_eq_true rfl)
  rw [lg_entry_eq]
  generalize (lg_sl ([.ref a0, .int a1, .int a2, .int a3, .ref a4]) ++ List.replicate (6 - (lg_sl ([.ref a0, .int a1, .int a2, .int a3, .ref a4])).length) Slot.unset).toArray = ls at hl ⊢
  have hl : lv_has ls 6 [(0, .ref a0), (1, .int a1), (2, .int a2), (3, .int a3), (4, .ref a4)] := hl
  unfold eX0_part at hd
  refine lv_aload (pc := 0) hx hb dX0_part_0 (lv_at hl 4 rfl) ?_
  refine lv_iconst (pc := 2) (v := 0) hx hb dX0_part_2 (by decide) ?_
  refine lv_aload_n (pc := 3) hx hb dX0_part_3 rfl (lv_at hl 0 rfl) ?_
  refine lv_iload_n (pc := 4) hx hb dX0_part_4 rfl (lv_at hl 1 rfl) ?_
  refine lv_iload_n (pc := 5) hx hb dX0_part_5 rfl (lv_at hl 2 rfl) ?_
  refine lv_iload_n (pc := 6) hx hb dX0_part_6 rfl (lv_at hl 3 rfl) ?_
  obtain ⟨h1, hd⟩ := wt_ck_o hd
  obtain ⟨w2, hc3, hd⟩ := wt_bd_o hd
  refine kX1_part (pc := 7) hfl hx hb hml hown hts hC hW hS h1 hc3 hl.1 (Nat.le_of_ble_eq_true rfl) ⟨Nat.le_of_ble_eq_true rfl, Nat.le_of_ble_eq_true rfl⟩ ⟨(Nat.le_of_ble_eq_true rfl), (Nat.le_of_ble_eq_true rfl)⟩ q1364 dX0_part_7 (fun x_ hx_ E_ ce_ q9_ H locs hXB hS hce hvn hfc => ?_) (fun o4 ho_ H locs hW hS => ?_)
  · have hd := wt_rs_r hx_ hd
    by_cases c9 : x_.1 = 101
    · have hd := wt_it hd c9
      refine hx_catchJ (name := "java/util/NoSuchElementException") 101 hown [] (⟨0, 12, 15, 32⟩ : ExceptionTableEntry) [(⟨0, 12, 19, 47⟩ : ExceptionTableEntry)] (htab.trans rfl) c9 (by decide) rfl (fun y hy => by cases hy) (by decide) (by decide) (hts _ q998) (va_Nw.use rfl (hC.2.1.1 _ (hw_of q1009 rfl))) hXB hce hvn hfc (fun hW => ?_)
      refine lv_astore (pc := 15) (lv' := [(5, .ref q9_), (0, .ref a0), (1, .int a1), (2, .int a2), (3, .int a3), (4, .ref a4)]) hx hb dX0_part_15 hl (by decide) rfl (fun ls hl => ?_)
      refine lv_iconst (pc := 17) (v := 1) hx hb dX0_part_17 (by decide) ?_
      refine vx_ret ?_
      exact hx_iret (τ := (x_.2.2.1, H.size)) hx hb hr rfl hlocks (Option.some.inj hd) hW hS dX0_part_18 (Nat.le_of_ble_eq_true rfl) (Nat.le_of_ble_eq_true rfl)
    have hd := wt_if hd c9
    by_cases c10 : x_.1 = 102
    · have hd := wt_it hd c10
      refine hx_catchJ (name := "java/lang/IndexOutOfBoundsException") 102 hown [(⟨0, 12, 15, 32⟩ : ExceptionTableEntry)] (⟨0, 12, 19, 47⟩ : ExceptionTableEntry) [] (htab.trans rfl) c10 (by decide) rfl (fun y hy => by rcases List.mem_singleton.mp hy with rfl; exact Or.inr ⟨by decide, _, hts _ q998, hC.2.2.2.1.2.2.2.2.2⟩) (by decide) (by decide) (hts _ q1192) (va_Nw.use rfl (hC.2.1.1 _ (hw_of q1221 rfl))) hXB hce hvn hfc (fun hW => ?_)
      refine lv_astore (pc := 19) (lv' := [(5, .ref q9_), (0, .ref a0), (1, .int a1), (2, .int a2), (3, .int a3), (4, .ref a4)]) hx hb dX0_part_19 hl (by decide) rfl (fun ls hl => ?_)
      refine lv_iconst (pc := 21) (v := 2) hx hb dX0_part_21 (by decide) ?_
      refine vx_ret ?_
      exact hx_iret (τ := (x_.2.2.1, H.size)) hx hb hr rfl hlocks (Option.some.inj hd) hW hS dX0_part_22 (Nat.le_of_ble_eq_true rfl) (Nat.le_of_ble_eq_true rfl)
    have hd := wt_if hd c10
    exact absurd hd (by intro h; cases h)
  · have hd := wt_rs_l ho_ hd
    refine lv_i2l (pc := 10) hx hb dX0_part_10 rfl ?_
    obtain ⟨z5, h6, hd⟩ := wt_bd_o hd
    obtain ⟨h7, hd⟩ := wt_ck_o hd
    obtain ⟨τ8, eτ8, hd⟩ := wt_lt_o hd
    refine hr_last (pc := 11) hx hb hK hW hS h6 h7 eτ8 dX0_part_11 (fun H locs hW hS => ?_)
    refine lv_goto (pc := 12) (tgt := 23) hx hb dX0_part_12 (by decide) ?_
    refine lv_iconst (pc := 23) (v := 0) hx hb dX0_part_23 (by decide) ?_
    refine vx_ret ?_
    exact hx_iret (τ := τ8) hx hb hr rfl hlocks (Option.some.inj hd) hW hS dX0_part_24 (Nat.le_of_ble_eq_true rfl) (Nat.le_of_ble_eq_true rfl)
theorem kX0_part {p : Program} {l : Launch} {e : Env} {R : Room} {s : State} {m : MethodId} {args : Array Value} {below : List Frame} {meth : Method} {c : Code} {H : Heap} {locs : List Loc} {cells slots : Nat} {Q : State → Prop} {cc : ByteArray} {pc : Nat} {ls : Array Slot} {rest : List Value} {nL : Nat} {own : String} {index : Nat} {G : HG} {A : Nat → Prop} {τ : HP} {a0 : Nat} {a1 : Int32} {a2 : Int32} {a3 : Int32} {a4 : Nat} {out_ : Int32 × HH} (hfl : l.stackTraces = false) (hx : p.tables.exec = Jvm.exec) (hb : c.code = cc) (hml : c.maxLocals = nL) (hown : s.vm.findClass own = some m.cls) (hts : ∀ w ∈ lw_all, w.before args s = true) (hC : Hcx G A s) (hW : Hw G A τ H) (hS : va_S A s.heap H locs) (hd : eX0_part τ a0 a1 a2 a3 a4 = some out_) (hsz : ls.size = nL) (hrm : (rest.map fun v => v.category).sum ≤ 8) (hR : 13 ≤ R.frames ∧ 302 ≤ R.locals) (hcs : (cells + 125) ≤ R.cells ∧ (slots + 4932) ≤ R.slots) (hlk : Cond.methodLink own index yX0_part ∈ lw_all) (hdg : decode cc pc = .ok (.invokestatic index, 3)) (kk : ∀ (u_ : HP) (H1 : Heap) (locs1 : List Loc), u_.1 = out_.2 → Hw G A u_ H1 → va_S A s.heap H1 locs1 → W p l e R s m args below meth c H1 locs1 (cells + 125) (slots + 4932) Q (F0 m (pc + 3) ls (.int out_.1 :: rest))) : W p l e R s m args below meth c H locs cells slots Q (F0 m pc ls (.ref a4 :: .int a3 :: .int a2 :: .int a1 :: .ref a0 :: rest)) := by
  refine vx_calli (vx_runSX (As := [.ref a0, .int a1, .int a2, .int a3, .ref a4]) (rest := rest) ⟨hx, hb, hml, hown, hts⟩ (wX0_part l hfl hd) (vx_cwSW 5 hts (lw_SW hlk q1362 q65 q1363) rfl rfl rfl (by decide +kernel) hR) (hr_preS hC hW hS) rfl rfl hsz rfl (lv_room hrm) hdg hcs) hS (fun _ _ h => h) (fun _ h => h) (fun _ _ h => h) (fun E ce q9 u t H1 locs1 ht hvm hp hB hz hk hS1 hce hvn hfc => by cases hp) (fun r u t H1 locs1 ht hvm hp hB hz hk hS1 => ?_)
  have hp : (r, u.1) = out_ := hp
  subst hp
  have hW1 : Hw G A u t.heap := hB
  rw [ht] at hW1
  exact kk u H1 locs1 rfl hW1 hS1
noncomputable def eX0_events (τ : HP) (a0 : Nat) (a1 : Int32) (a2 : Nat) : Option (Int32 × HH) :=
  wt_ck (hcl τ a0 = some 0) <| wt_bd (eX1_events τ a0 a1) fun w2 => wt_rs w2 (fun o4 => wt_bd (haL o4.2 a2 4) fun z5 => wt_ck (vp_in (0 : Int32) z5.1) <| wt_lt (hst o4.2 a2 (.inl (4, z5.1, .inr (.inl (vp_updL z5.2 (0 : Int32).toNatClampNeg (Int32.toInt64 o4.1)))))) fun τ8 => some ((0 : Int32), τ8.1)) (fun x_ => if x_.1 = 101 then (some ((1 : Int32), x_.2.2.1)) else (none))
set_option maxHeartbeats 4000000 in
theorem wX0_events (l : Launch) (hfl : l.stackTraces = false) {G : HG} {A : Nat → Prop} {τ : HP} {a0 : Nat} {a1 : Int32} {a2 : Nat} {out_ : Int32 × HH} (hd : eX0_events τ a0 a1 a2 = some out_) : vx_Met l yX0_events (wsW_ yX0_events cX0_events 4 (some .int) [(0, 9, 12, 32)]) ({ frames := 8, cells := 1, slots := 7, locals := 152 }) (hPc G A τ [.ref a0, .int a1, .ref a2]) (hXi G A (fun r u => (r, u.1) = out_)) (hXX G A (Sum.inl out_ : (Int32 × HH) ⊕ (Nat × Nat × HP))) 1 7 A := by
  refine vx_ofWH (hh := [(0, 9, 12, 32)]) (cc := cX0_events) (maxL := 4) (ret := (some .int)) (by decide) rfl ?_
  intro p_ e_ s_ m_ args_ below_ meth_ c_ s₁_ B hml hv
  obtain ⟨rfl, hW, hC⟩ := hv
  have hx := B.exec
  have hb := B.bytes
  have hr := B.returns
  have hts := atoms_spec (ws := (wsW_ yX0_events cX0_events 4 (some .int) [(0, 9, 12, 32)])) B.pre
  have hts : ∀ w ∈ lw_all, w.before _ s_ = true := fun w h => hts w (List.mem_cons_of_mem _ h)
  have hown : s_.vm.findClass RX0 = some m_.cls := findClass_of_methodNamed B.named
  have htab : c_.exceptionTable.toList = tableOf [(0, 9, 12, 32)] := vx_table (x := yX0_events) B (hts _ q1370)
  have hlocks := B.notSynchronized
  have hK := hC.1
  have hT := hC.2.1
  have hL := hC.2.2.1
  have hZ := hC.2.2.2.2.1
  have hA := hC.2.2.2.2.2
  have hS : va_S A s_.heap s_.heap [] := va_S.rf
  have hl := lv_entry ([.ref a0, .int a1, .ref a2]) (n := 4) (Nat.le_of_ble_eq_true rfl)
  rw [lg_entry_eq]
  generalize (lg_sl ([.ref a0, .int a1, .ref a2]) ++ List.replicate (4 - (lg_sl ([.ref a0, .int a1, .ref a2])).length) Slot.unset).toArray = ls at hl ⊢
  have hl : lv_has ls 4 [(0, .ref a0), (1, .int a1), (2, .ref a2)] := hl
  unfold eX0_events at hd
  refine lv_aload_n (pc := 0) hx hb dX0_events_0 rfl (lv_at hl 2 rfl) ?_
  refine lv_iconst (pc := 1) (v := 0) hx hb dX0_events_1 (by decide) ?_
  refine lv_aload_n (pc := 2) hx hb dX0_events_2 rfl (lv_at hl 0 rfl) ?_
  refine lv_iload_n (pc := 3) hx hb dX0_events_3 rfl (lv_at hl 1 rfl) ?_
  obtain ⟨h1, hd⟩ := wt_ck_o hd
  obtain ⟨w2, hc3, hd⟩ := wt_bd_o hd
  refine kX1_events (pc := 4) hfl hx hb hml hown hts hC hW hS h1 hc3 hl.1 (Nat.le_of_ble_eq_true rfl) ⟨Nat.le_of_ble_eq_true rfl, Nat.le_of_ble_eq_true rfl⟩ ⟨(Nat.le_of_ble_eq_true rfl), (Nat.le_of_ble_eq_true rfl)⟩ q1371 dX0_events_4 (fun x_ hx_ E_ ce_ q9_ H locs hXB hS hce hvn hfc => ?_) (fun o4 ho_ H locs hW hS => ?_)
  · have hd := wt_rs_r hx_ hd
    by_cases c9 : x_.1 = 101
    · have hd := wt_it hd c9
      refine hx_catchJ (name := "java/util/NoSuchElementException") 101 hown [] (⟨0, 9, 12, 32⟩ : ExceptionTableEntry) [] (htab.trans rfl) c9 (by decide) rfl (fun y hy => by cases hy) (by decide) (by decide) (hts _ q998) (va_Nw.use rfl (hC.2.1.1 _ (hw_of q1009 rfl))) hXB hce hvn hfc (fun hW => ?_)
      refine lv_astore_n (pc := 12) (lv' := [(3, .ref q9_), (0, .ref a0), (1, .int a1), (2, .ref a2)]) hx hb dX0_events_12 rfl hl (by decide) rfl (fun ls hl => ?_)
      refine lv_iconst (pc := 13) (v := 1) hx hb dX0_events_13 (by decide) ?_
      refine vx_ret ?_
      exact hx_iret (τ := (x_.2.2.1, H.size)) hx hb hr rfl hlocks (Option.some.inj hd) hW hS dX0_events_14 (Nat.le_of_ble_eq_true rfl) (Nat.le_of_ble_eq_true rfl)
    have hd := wt_if hd c9
    exact absurd hd (by intro h; cases h)
  · have hd := wt_rs_l ho_ hd
    refine lv_i2l (pc := 7) hx hb dX0_events_7 rfl ?_
    obtain ⟨z5, h6, hd⟩ := wt_bd_o hd
    obtain ⟨h7, hd⟩ := wt_ck_o hd
    obtain ⟨τ8, eτ8, hd⟩ := wt_lt_o hd
    refine hr_last (pc := 8) hx hb hK hW hS h6 h7 eτ8 dX0_events_8 (fun H locs hW hS => ?_)
    refine lv_goto (pc := 9) (tgt := 15) hx hb dX0_events_9 (by decide) ?_
    refine lv_iconst (pc := 15) (v := 0) hx hb dX0_events_15 (by decide) ?_
    refine vx_ret ?_
    exact hx_iret (τ := τ8) hx hb hr rfl hlocks (Option.some.inj hd) hW hS dX0_events_16 (Nat.le_of_ble_eq_true rfl) (Nat.le_of_ble_eq_true rfl)
theorem kX0_events {p : Program} {l : Launch} {e : Env} {R : Room} {s : State} {m : MethodId} {args : Array Value} {below : List Frame} {meth : Method} {c : Code} {H : Heap} {locs : List Loc} {cells slots : Nat} {Q : State → Prop} {cc : ByteArray} {pc : Nat} {ls : Array Slot} {rest : List Value} {nL : Nat} {own : String} {index : Nat} {G : HG} {A : Nat → Prop} {τ : HP} {a0 : Nat} {a1 : Int32} {a2 : Nat} {out_ : Int32 × HH} (hfl : l.stackTraces = false) (hx : p.tables.exec = Jvm.exec) (hb : c.code = cc) (hml : c.maxLocals = nL) (hown : s.vm.findClass own = some m.cls) (hts : ∀ w ∈ lw_all, w.before args s = true) (hC : Hcx G A s) (hW : Hw G A τ H) (hS : va_S A s.heap H locs) (hd : eX0_events τ a0 a1 a2 = some out_) (hsz : ls.size = nL) (hrm : (rest.map fun v => v.category).sum ≤ 8) (hR : 9 ≤ R.frames ∧ 175 ≤ R.locals) (hcs : (cells + 1) ≤ R.cells ∧ (slots + 7) ≤ R.slots) (hlk : Cond.methodLink own index yX0_events ∈ lw_all) (hdg : decode cc pc = .ok (.invokestatic index, 3)) (kk : ∀ (u_ : HP) (H1 : Heap) (locs1 : List Loc), u_.1 = out_.2 → Hw G A u_ H1 → va_S A s.heap H1 locs1 → W p l e R s m args below meth c H1 locs1 (cells + 1) (slots + 7) Q (F0 m (pc + 3) ls (.int out_.1 :: rest))) : W p l e R s m args below meth c H locs cells slots Q (F0 m pc ls (.ref a2 :: .int a1 :: .ref a0 :: rest)) := by
  refine vx_calli (vx_runSX (As := [.ref a0, .int a1, .ref a2]) (rest := rest) ⟨hx, hb, hml, hown, hts⟩ (wX0_events l hfl hd) (vx_cwSW 3 hts (lw_SW hlk q1369 q65 q1370) rfl rfl rfl (by decide +kernel) hR) (hr_preS hC hW hS) rfl rfl hsz rfl (lv_room hrm) hdg hcs) hS (fun _ _ h => h) (fun _ h => h) (fun _ _ h => h) (fun E ce q9 u t H1 locs1 ht hvm hp hB hz hk hS1 hce hvn hfc => by cases hp) (fun r u t H1 locs1 ht hvm hp hB hz hk hS1 => ?_)
  have hp : (r, u.1) = out_ := hp
  subst hp
  have hW1 : Hw G A u t.heap := hB
  rw [ht] at hW1
  exact kk u H1 locs1 rfl hW1 hS1
noncomputable def eX0_counts (τ : HP) (a0 : Nat) (a1 : Int32) (a2 : Int32) (a3 : Nat) : Option (Int32 × HH) :=
  wt_ck (hcl τ a0 = some 0) <| wt_bd (eX1_counts τ a0 a1 a2) fun w2 => wt_rs w2 (fun o4 => wt_bd (haL o4.2 a3 4) fun z5 => wt_ck (vp_in (0 : Int32) z5.1) <| wt_lt (hst o4.2 a3 (.inl (4, z5.1, .inr (.inl (vp_updL z5.2 (0 : Int32).toNatClampNeg (Int32.toInt64 o4.1)))))) fun τ8 => some ((0 : Int32), τ8.1)) (fun x_ => if x_.1 = 101 then (some ((1 : Int32), x_.2.2.1)) else (if x_.1 = 102 then (some ((2 : Int32), x_.2.2.1)) else (none)))
set_option maxHeartbeats 4000000 in
theorem wX0_counts (l : Launch) (hfl : l.stackTraces = false) {G : HG} {A : Nat → Prop} {τ : HP} {a0 : Nat} {a1 : Int32} {a2 : Int32} {a3 : Nat} {out_ : Int32 × HH} (hd : eX0_counts τ a0 a1 a2 a3 = some out_) : vx_Met l yX0_counts (wsW_ yX0_counts cX0_counts 5 (some .int) [(0, 10, 13, 32), (0, 10, 17, 47)]) ({ frames := 12, cells := 125, slots := 4932, locals := 275 }) (hPc G A τ [.ref a0, .int a1, .int a2, .ref a3]) (hXi G A (fun r u => (r, u.1) = out_)) (hXX G A (Sum.inl out_ : (Int32 × HH) ⊕ (Nat × Nat × HP))) 125 4932 A := by
  refine vx_ofWH (hh := [(0, 10, 13, 32), (0, 10, 17, 47)]) (cc := cX0_counts) (maxL := 5) (ret := (some .int)) (by decide) rfl ?_
  intro p_ e_ s_ m_ args_ below_ meth_ c_ s₁_ B hml hv
  obtain ⟨rfl, hW, hC⟩ := hv
  have hx := B.exec
  have hb := B.bytes
  have hr := B.returns
  have hts := atoms_spec (ws := (wsW_ yX0_counts cX0_counts 5 (some .int) [(0, 10, 13, 32), (0, 10, 17, 47)])) B.pre
  have hts : ∀ w ∈ lw_all, w.before _ s_ = true := fun w h => hts w (List.mem_cons_of_mem _ h)
  have hown : s_.vm.findClass RX0 = some m_.cls := findClass_of_methodNamed B.named
  have htab : c_.exceptionTable.toList = tableOf [(0, 10, 13, 32), (0, 10, 17, 47)] := vx_table (x := yX0_counts) B (hts _ q1377)
  have hlocks := B.notSynchronized
  have hK := hC.1
  have hT := hC.2.1
  have hL := hC.2.2.1
  have hZ := hC.2.2.2.2.1
  have hA := hC.2.2.2.2.2
  have hS : va_S A s_.heap s_.heap [] := va_S.rf
  have hl := lv_entry ([.ref a0, .int a1, .int a2, .ref a3]) (n := 5) (Nat.le_of_ble_eq_true rfl)
  rw [lg_entry_eq]
  generalize (lg_sl ([.ref a0, .int a1, .int a2, .ref a3]) ++ List.replicate (5 - (lg_sl ([.ref a0, .int a1, .int a2, .ref a3])).length) Slot.unset).toArray = ls at hl ⊢
  have hl : lv_has ls 5 [(0, .ref a0), (1, .int a1), (2, .int a2), (3, .ref a3)] := hl
  unfold eX0_counts at hd
  refine lv_aload_n (pc := 0) hx hb dX0_counts_0 rfl (lv_at hl 3 rfl) ?_
  refine lv_iconst (pc := 1) (v := 0) hx hb dX0_counts_1 (by decide) ?_
  refine lv_aload_n (pc := 2) hx hb dX0_counts_2 rfl (lv_at hl 0 rfl) ?_
  refine lv_iload_n (pc := 3) hx hb dX0_counts_3 rfl (lv_at hl 1 rfl) ?_
  refine lv_iload_n (pc := 4) hx hb dX0_counts_4 rfl (lv_at hl 2 rfl) ?_
  obtain ⟨h1, hd⟩ := wt_ck_o hd
  obtain ⟨w2, hc3, hd⟩ := wt_bd_o hd
  refine kX1_counts (pc := 5) hfl hx hb hml hown hts hC hW hS h1 hc3 hl.1 (Nat.le_of_ble_eq_true rfl) ⟨Nat.le_of_ble_eq_true rfl, Nat.le_of_ble_eq_true rfl⟩ ⟨(Nat.le_of_ble_eq_true rfl), (Nat.le_of_ble_eq_true rfl)⟩ q1378 dX0_counts_5 (fun x_ hx_ E_ ce_ q9_ H locs hXB hS hce hvn hfc => ?_) (fun o4 ho_ H locs hW hS => ?_)
  · have hd := wt_rs_r hx_ hd
    by_cases c9 : x_.1 = 101
    · have hd := wt_it hd c9
      refine hx_catchJ (name := "java/util/NoSuchElementException") 101 hown [] (⟨0, 10, 13, 32⟩ : ExceptionTableEntry) [(⟨0, 10, 17, 47⟩ : ExceptionTableEntry)] (htab.trans rfl) c9 (by decide) rfl (fun y hy => by cases hy) (by decide) (by decide) (hts _ q998) (va_Nw.use rfl (hC.2.1.1 _ (hw_of q1009 rfl))) hXB hce hvn hfc (fun hW => ?_)
      refine lv_astore (pc := 13) (lv' := [(4, .ref q9_), (0, .ref a0), (1, .int a1), (2, .int a2), (3, .ref a3)]) hx hb dX0_counts_13 hl (by decide) rfl (fun ls hl => ?_)
      refine lv_iconst (pc := 15) (v := 1) hx hb dX0_counts_15 (by decide) ?_
      refine vx_ret ?_
      exact hx_iret (τ := (x_.2.2.1, H.size)) hx hb hr rfl hlocks (Option.some.inj hd) hW hS dX0_counts_16 (Nat.le_of_ble_eq_true rfl) (Nat.le_of_ble_eq_true rfl)
    have hd := wt_if hd c9
    by_cases c10 : x_.1 = 102
    · have hd := wt_it hd c10
      refine hx_catchJ (name := "java/lang/IndexOutOfBoundsException") 102 hown [(⟨0, 10, 13, 32⟩ : ExceptionTableEntry)] (⟨0, 10, 17, 47⟩ : ExceptionTableEntry) [] (htab.trans rfl) c10 (by decide) rfl (fun y hy => by rcases List.mem_singleton.mp hy with rfl; exact Or.inr ⟨by decide, _, hts _ q998, hC.2.2.2.1.2.2.2.2.2⟩) (by decide) (by decide) (hts _ q1192) (va_Nw.use rfl (hC.2.1.1 _ (hw_of q1221 rfl))) hXB hce hvn hfc (fun hW => ?_)
      refine lv_astore (pc := 17) (lv' := [(4, .ref q9_), (0, .ref a0), (1, .int a1), (2, .int a2), (3, .ref a3)]) hx hb dX0_counts_17 hl (by decide) rfl (fun ls hl => ?_)
      refine lv_iconst (pc := 19) (v := 2) hx hb dX0_counts_19 (by decide) ?_
      refine vx_ret ?_
      exact hx_iret (τ := (x_.2.2.1, H.size)) hx hb hr rfl hlocks (Option.some.inj hd) hW hS dX0_counts_20 (Nat.le_of_ble_eq_true rfl) (Nat.le_of_ble_eq_true rfl)
    have hd := wt_if hd c10
    exact absurd hd (by intro h; cases h)
  · have hd := wt_rs_l ho_ hd
    refine lv_i2l (pc := 8) hx hb dX0_counts_8 rfl ?_
    obtain ⟨z5, h6, hd⟩ := wt_bd_o hd
    obtain ⟨h7, hd⟩ := wt_ck_o hd
    obtain ⟨τ8, eτ8, hd⟩ := wt_lt_o hd
    refine hr_last (pc := 9) hx hb hK hW hS h6 h7 eτ8 dX0_counts_9 (fun H locs hW hS => ?_)
    refine lv_goto (pc := 10) (tgt := 21) hx hb dX0_counts_10 (by decide) ?_
    refine lv_iconst (pc := 21) (v := 0) hx hb dX0_counts_21 (by decide) ?_
    refine vx_ret ?_
    exact hx_iret (τ := τ8) hx hb hr rfl hlocks (Option.some.inj hd) hW hS dX0_counts_22 (Nat.le_of_ble_eq_true rfl) (Nat.le_of_ble_eq_true rfl)
theorem kX0_counts {p : Program} {l : Launch} {e : Env} {R : Room} {s : State} {m : MethodId} {args : Array Value} {below : List Frame} {meth : Method} {c : Code} {H : Heap} {locs : List Loc} {cells slots : Nat} {Q : State → Prop} {cc : ByteArray} {pc : Nat} {ls : Array Slot} {rest : List Value} {nL : Nat} {own : String} {index : Nat} {G : HG} {A : Nat → Prop} {τ : HP} {a0 : Nat} {a1 : Int32} {a2 : Int32} {a3 : Nat} {out_ : Int32 × HH} (hfl : l.stackTraces = false) (hx : p.tables.exec = Jvm.exec) (hb : c.code = cc) (hml : c.maxLocals = nL) (hown : s.vm.findClass own = some m.cls) (hts : ∀ w ∈ lw_all, w.before args s = true) (hC : Hcx G A s) (hW : Hw G A τ H) (hS : va_S A s.heap H locs) (hd : eX0_counts τ a0 a1 a2 a3 = some out_) (hsz : ls.size = nL) (hrm : (rest.map fun v => v.category).sum ≤ 8) (hR : 13 ≤ R.frames ∧ 299 ≤ R.locals) (hcs : (cells + 125) ≤ R.cells ∧ (slots + 4932) ≤ R.slots) (hlk : Cond.methodLink own index yX0_counts ∈ lw_all) (hdg : decode cc pc = .ok (.invokestatic index, 3)) (kk : ∀ (u_ : HP) (H1 : Heap) (locs1 : List Loc), u_.1 = out_.2 → Hw G A u_ H1 → va_S A s.heap H1 locs1 → W p l e R s m args below meth c H1 locs1 (cells + 125) (slots + 4932) Q (F0 m (pc + 3) ls (.int out_.1 :: rest))) : W p l e R s m args below meth c H locs cells slots Q (F0 m pc ls (.ref a3 :: .int a2 :: .int a1 :: .ref a0 :: rest)) := by
  refine vx_calli (vx_runSX (As := [.ref a0, .int a1, .int a2, .ref a3]) (rest := rest) ⟨hx, hb, hml, hown, hts⟩ (wX0_counts l hfl hd) (vx_cwSW 4 hts (lw_SW hlk q1376 q65 q1377) rfl rfl rfl (by decide +kernel) hR) (hr_preS hC hW hS) rfl rfl hsz rfl (lv_room hrm) hdg hcs) hS (fun _ _ h => h) (fun _ h => h) (fun _ _ h => h) (fun E ce q9 u t H1 locs1 ht hvm hp hB hz hk hS1 hce hvn hfc => by cases hp) (fun r u t H1 locs1 ht hvm hp hB hz hk hS1 => ?_)
  have hp : (r, u.1) = out_ := hp
  subst hp
  have hW1 : Hw G A u t.heap := hB
  rw [ht] at hW1
  exact kk u H1 locs1 rfl hW1 hS1
noncomputable def eX0_needed (τ : HP) (a0 : Nat) (a1 : Int32) (a2 : Int32) (a3 : Nat) : Option (Int32 × HH) :=
  wt_ck (hcl τ a0 = some 0) <| wt_bd (eX1_needed τ a0 a1 a2) fun w2 => wt_rs w2 (fun o4 => wt_bd (haL o4.2 a3 4) fun z5 => wt_ck (vp_in (0 : Int32) z5.1) <| wt_lt (hst o4.2 a3 (.inl (4, z5.1, .inr (.inl (vp_updL z5.2 (0 : Int32).toNatClampNeg (Int32.toInt64 o4.1)))))) fun τ8 => some ((0 : Int32), τ8.1)) (fun x_ => if x_.1 = 101 then (some ((1 : Int32), x_.2.2.1)) else (none))
set_option maxHeartbeats 4000000 in
theorem wX0_needed (l : Launch) (hfl : l.stackTraces = false) {G : HG} {A : Nat → Prop} {τ : HP} {a0 : Nat} {a1 : Int32} {a2 : Int32} {a3 : Nat} {out_ : Int32 × HH} (hd : eX0_needed τ a0 a1 a2 a3 = some out_) : vx_Met l yX0_needed (wsW_ yX0_needed cX0_needed 5 (some .int) [(0, 10, 13, 32)]) ({ frames := 10, cells := 900, slots := 34000, locals := 225 }) (hPc G A τ [.ref a0, .int a1, .int a2, .ref a3]) (hXi G A (fun r u => (r, u.1) = out_)) (hXX G A (Sum.inl out_ : (Int32 × HH) ⊕ (Nat × Nat × HP))) 900 34000 A := by
  refine vx_ofWH (hh := [(0, 10, 13, 32)]) (cc := cX0_needed) (maxL := 5) (ret := (some .int)) (by decide) rfl ?_
  intro p_ e_ s_ m_ args_ below_ meth_ c_ s₁_ B hml hv
  obtain ⟨rfl, hW, hC⟩ := hv
  have hx := B.exec
  have hb := B.bytes
  have hr := B.returns
  have hts := atoms_spec (ws := (wsW_ yX0_needed cX0_needed 5 (some .int) [(0, 10, 13, 32)])) B.pre
  have hts : ∀ w ∈ lw_all, w.before _ s_ = true := fun w h => hts w (List.mem_cons_of_mem _ h)
  have hown : s_.vm.findClass RX0 = some m_.cls := findClass_of_methodNamed B.named
  have htab : c_.exceptionTable.toList = tableOf [(0, 10, 13, 32)] := vx_table (x := yX0_needed) B (hts _ q1391)
  have hlocks := B.notSynchronized
  have hK := hC.1
  have hT := hC.2.1
  have hL := hC.2.2.1
  have hZ := hC.2.2.2.2.1
  have hA := hC.2.2.2.2.2
  have hS : va_S A s_.heap s_.heap [] := va_S.rf
  have hl := lv_entry ([.ref a0, .int a1, .int a2, .ref a3]) (n := 5) (Nat.le_of_ble_eq_true rfl)
  rw [lg_entry_eq]
  generalize (lg_sl ([.ref a0, .int a1, .int a2, .ref a3]) ++ List.replicate (5 - (lg_sl ([.ref a0, .int a1, .int a2, .ref a3])).length) Slot.unset).toArray = ls at hl ⊢
  have hl : lv_has ls 5 [(0, .ref a0), (1, .int a1), (2, .int a2), (3, .ref a3)] := hl
  unfold eX0_needed at hd
  refine lv_aload_n (pc := 0) hx hb dX0_needed_0 rfl (lv_at hl 3 rfl) ?_
  refine lv_iconst (pc := 1) (v := 0) hx hb dX0_needed_1 (by decide) ?_
  refine lv_aload_n (pc := 2) hx hb dX0_needed_2 rfl (lv_at hl 0 rfl) ?_
  refine lv_iload_n (pc := 3) hx hb dX0_needed_3 rfl (lv_at hl 1 rfl) ?_
  refine lv_iload_n (pc := 4) hx hb dX0_needed_4 rfl (lv_at hl 2 rfl) ?_
  obtain ⟨h1, hd⟩ := wt_ck_o hd
  obtain ⟨w2, hc3, hd⟩ := wt_bd_o hd
  refine kX1_needed (pc := 5) hfl hx hb hml hown hts hC hW hS h1 hc3 hl.1 (Nat.le_of_ble_eq_true rfl) ⟨Nat.le_of_ble_eq_true rfl, Nat.le_of_ble_eq_true rfl⟩ ⟨(Nat.le_of_ble_eq_true rfl), (Nat.le_of_ble_eq_true rfl)⟩ q1392 dX0_needed_5 (fun x_ hx_ E_ ce_ q9_ H locs hXB hS hce hvn hfc => ?_) (fun o4 ho_ H locs hW hS => ?_)
  · have hd := wt_rs_r hx_ hd
    by_cases c9 : x_.1 = 101
    · have hd := wt_it hd c9
      refine hx_catchJ (name := "java/util/NoSuchElementException") 101 hown [] (⟨0, 10, 13, 32⟩ : ExceptionTableEntry) [] (htab.trans rfl) c9 (by decide) rfl (fun y hy => by cases hy) (by decide) (by decide) (hts _ q998) (va_Nw.use rfl (hC.2.1.1 _ (hw_of q1009 rfl))) hXB hce hvn hfc (fun hW => ?_)
      refine lv_astore (pc := 13) (lv' := [(4, .ref q9_), (0, .ref a0), (1, .int a1), (2, .int a2), (3, .ref a3)]) hx hb dX0_needed_13 hl (by decide) rfl (fun ls hl => ?_)
      refine lv_iconst (pc := 15) (v := 1) hx hb dX0_needed_15 (by decide) ?_
      refine vx_ret ?_
      exact hx_iret (τ := (x_.2.2.1, H.size)) hx hb hr rfl hlocks (Option.some.inj hd) hW hS dX0_needed_16 (Nat.le_of_ble_eq_true rfl) (Nat.le_of_ble_eq_true rfl)
    have hd := wt_if hd c9
    exact absurd hd (by intro h; cases h)
  · have hd := wt_rs_l ho_ hd
    refine lv_i2l (pc := 8) hx hb dX0_needed_8 rfl ?_
    obtain ⟨z5, h6, hd⟩ := wt_bd_o hd
    obtain ⟨h7, hd⟩ := wt_ck_o hd
    obtain ⟨τ8, eτ8, hd⟩ := wt_lt_o hd
    refine hr_last (pc := 9) hx hb hK hW hS h6 h7 eτ8 dX0_needed_9 (fun H locs hW hS => ?_)
    refine lv_goto (pc := 10) (tgt := 17) hx hb dX0_needed_10 (by decide) ?_
    refine lv_iconst (pc := 17) (v := 0) hx hb dX0_needed_17 (by decide) ?_
    refine vx_ret ?_
    exact hx_iret (τ := τ8) hx hb hr rfl hlocks (Option.some.inj hd) hW hS dX0_needed_18 (Nat.le_of_ble_eq_true rfl) (Nat.le_of_ble_eq_true rfl)
theorem kX0_needed {p : Program} {l : Launch} {e : Env} {R : Room} {s : State} {m : MethodId} {args : Array Value} {below : List Frame} {meth : Method} {c : Code} {H : Heap} {locs : List Loc} {cells slots : Nat} {Q : State → Prop} {cc : ByteArray} {pc : Nat} {ls : Array Slot} {rest : List Value} {nL : Nat} {own : String} {index : Nat} {G : HG} {A : Nat → Prop} {τ : HP} {a0 : Nat} {a1 : Int32} {a2 : Int32} {a3 : Nat} {out_ : Int32 × HH} (hfl : l.stackTraces = false) (hx : p.tables.exec = Jvm.exec) (hb : c.code = cc) (hml : c.maxLocals = nL) (hown : s.vm.findClass own = some m.cls) (hts : ∀ w ∈ lw_all, w.before args s = true) (hC : Hcx G A s) (hW : Hw G A τ H) (hS : va_S A s.heap H locs) (hd : eX0_needed τ a0 a1 a2 a3 = some out_) (hsz : ls.size = nL) (hrm : (rest.map fun v => v.category).sum ≤ 8) (hR : 11 ≤ R.frames ∧ 249 ≤ R.locals) (hcs : (cells + 900) ≤ R.cells ∧ (slots + 34000) ≤ R.slots) (hlk : Cond.methodLink own index yX0_needed ∈ lw_all) (hdg : decode cc pc = .ok (.invokestatic index, 3)) (kk : ∀ (u_ : HP) (H1 : Heap) (locs1 : List Loc), u_.1 = out_.2 → Hw G A u_ H1 → va_S A s.heap H1 locs1 → W p l e R s m args below meth c H1 locs1 (cells + 900) (slots + 34000) Q (F0 m (pc + 3) ls (.int out_.1 :: rest))) : W p l e R s m args below meth c H locs cells slots Q (F0 m pc ls (.ref a3 :: .int a2 :: .int a1 :: .ref a0 :: rest)) := by
  refine vx_calli (vx_runSX (As := [.ref a0, .int a1, .int a2, .ref a3]) (rest := rest) ⟨hx, hb, hml, hown, hts⟩ (wX0_needed l hfl hd) (vx_cwSW 4 hts (lw_SW hlk q1390 q65 q1391) rfl rfl rfl (by decide +kernel) hR) (hr_preS hC hW hS) rfl rfl hsz rfl (lv_room hrm) hdg hcs) hS (fun _ _ h => h) (fun _ h => h) (fun _ _ h => h) (fun E ce q9 u t H1 locs1 ht hvm hp hB hz hk hS1 hce hvn hfc => by cases hp) (fun r u t H1 locs1 ht hvm hp hB hz hk hS1 => ?_)
  have hp : (r, u.1) = out_ := hp
  subst hp
  have hW1 : Hw G A u t.heap := hB
  rw [ht] at hW1
  exact kk u H1 locs1 rfl hW1 hS1
noncomputable def eX0_byWay (τ : HP) (a0 : Nat) (a1 : Int32) (a2 : Int32) (a3 : Int32) (a4 : Int32) (a5 : Int32) (a6 : Int32) (a7 : Nat) : Option (Int32 × HH) :=
  wt_ck (hcl τ a0 = some 0) <| wt_bd (eX1_byWay τ a0 a1 a2 a3 a4 a5 a6) fun w2 => wt_rs w2 (fun o4 => wt_bd (haL o4.2 a7 4) fun z5 => wt_ck (vp_in (0 : Int32) z5.1) <| wt_lt (hst o4.2 a7 (.inl (4, z5.1, .inr (.inl (vp_updL z5.2 (0 : Int32).toNatClampNeg (Int32.toInt64 o4.1)))))) fun τ8 => some ((0 : Int32), τ8.1)) (fun x_ => if x_.1 = 101 then (some ((1 : Int32), x_.2.2.1)) else (if x_.1 = 100 then (some ((2 : Int32), x_.2.2.1)) else (none)))
set_option maxHeartbeats 4000000 in
theorem wX0_byWay (l : Launch) (hfl : l.stackTraces = false) {G : HG} {A : Nat → Prop} {τ : HP} {a0 : Nat} {a1 : Int32} {a2 : Int32} {a3 : Int32} {a4 : Int32} {a5 : Int32} {a6 : Int32} {a7 : Nat} {out_ : Int32 × HH} (hd : eX0_byWay τ a0 a1 a2 a3 a4 a5 a6 a7 = some out_) : vx_Met l yX0_byWay (wsW_ yX0_byWay cX0_byWay 9 (some .int) [(0, 18, 21, 32), (0, 18, 25, 13)]) ({ frames := 8, cells := 5, slots := 126, locals := 159 }) (hPc G A τ [.ref a0, .int a1, .int a2, .int a3, .int a4, .int a5, .int a6, .ref a7]) (hXi G A (fun r u => (r, u.1) = out_)) (hXX G A (Sum.inl out_ : (Int32 × HH) ⊕ (Nat × Nat × HP))) 5 126 A := by
  refine vx_ofWH (hh := [(0, 18, 21, 32), (0, 18, 25, 13)]) (cc := cX0_byWay) (maxL := 9) (ret := (some .int)) (by decide) rfl ?_
  intro p_ e_ s_ m_ args_ below_ meth_ c_ s₁_ B hml hv
  obtain ⟨rfl, hW, hC⟩ := hv
  have hx := B.exec
  have hb := B.bytes
  have hr := B.returns
  have hts := atoms_spec (ws := (wsW_ yX0_byWay cX0_byWay 9 (some .int) [(0, 18, 21, 32), (0, 18, 25, 13)])) B.pre
  have hts : ∀ w ∈ lw_all, w.before _ s_ = true := fun w h => hts w (List.mem_cons_of_mem _ h)
  have hown : s_.vm.findClass RX0 = some m_.cls := findClass_of_methodNamed B.named
  have htab : c_.exceptionTable.toList = tableOf [(0, 18, 21, 32), (0, 18, 25, 13)] := vx_table (x := yX0_byWay) B (hts _ q1398)
  have hlocks := B.notSynchronized
  have hK := hC.1
  have hT := hC.2.1
  have hL := hC.2.2.1
  have hZ := hC.2.2.2.2.1
  have hA := hC.2.2.2.2.2
  have hS : va_S A s_.heap s_.heap [] := va_S.rf
  have hl := lv_entry ([.ref a0, .int a1, .int a2, .int a3, .int a4, .int a5, .int a6, .ref a7]) (n := 9) (Nat.le_of_ble_eq_true rfl)
  rw [lg_entry_eq]
  generalize (lg_sl ([.ref a0, .int a1, .int a2, .int a3, .int a4, .int a5, .int a6, .ref a7]) ++ List.replicate (9 - (lg_sl ([.ref a0, .int a1, .int a2, .int a3, .int a4, .int a5, .int a6, .ref a7])).length) Slot.unset).toArray = ls at hl ⊢
  have hl : lv_has ls 9 [(0, .ref a0), (1, .int a1), (2, .int a2), (3, .int a3), (4, .int a4), (5, .int a5), (6, .int a6), (7, .ref a7)] := hl
  unfold eX0_byWay at hd
  refine lv_aload (pc := 0) hx hb dX0_byWay_0 (lv_at hl 7 rfl) ?_
  refine lv_iconst (pc := 2) (v := 0) hx hb dX0_byWay_2 (by decide) ?_
  refine lv_aload_n (pc := 3) hx hb dX0_byWay_3 rfl (lv_at hl 0 rfl) ?_
  refine lv_iload_n (pc := 4) hx hb dX0_byWay_4 rfl (lv_at hl 1 rfl) ?_
  refine lv_iload_n (pc := 5) hx hb dX0_byWay_5 rfl (lv_at hl 2 rfl) ?_
  refine lv_iload_n (pc := 6) hx hb dX0_byWay_6 rfl (lv_at hl 3 rfl) ?_
  refine lv_iload (pc := 7) hx hb dX0_byWay_7 (lv_at hl 4 rfl) ?_
  refine lv_iload (pc := 9) hx hb dX0_byWay_9 (lv_at hl 5 rfl) ?_
  refine lv_iload (pc := 11) hx hb dX0_byWay_11 (lv_at hl 6 rfl) ?_
  obtain ⟨h1, hd⟩ := wt_ck_o hd
  obtain ⟨w2, hc3, hd⟩ := wt_bd_o hd
  refine kX1_byWay (pc := 13) hfl hx hb hml hown hts hC hW hS h1 hc3 hl.1 (Nat.le_of_ble_eq_true rfl) ⟨Nat.le_of_ble_eq_true rfl, Nat.le_of_ble_eq_true rfl⟩ ⟨(Nat.le_of_ble_eq_true rfl), (Nat.le_of_ble_eq_true rfl)⟩ q1399 dX0_byWay_13 (fun x_ hx_ E_ ce_ q9_ H locs hXB hS hce hvn hfc => ?_) (fun o4 ho_ H locs hW hS => ?_)
  · have hd := wt_rs_r hx_ hd
    by_cases c9 : x_.1 = 101
    · have hd := wt_it hd c9
      refine hx_catchJ (name := "java/util/NoSuchElementException") 101 hown [] (⟨0, 18, 21, 32⟩ : ExceptionTableEntry) [(⟨0, 18, 25, 13⟩ : ExceptionTableEntry)] (htab.trans rfl) c9 (by decide) rfl (fun y hy => by cases hy) (by decide) (by decide) (hts _ q998) (va_Nw.use rfl (hC.2.1.1 _ (hw_of q1009 rfl))) hXB hce hvn hfc (fun hW => ?_)
      refine lv_astore (pc := 21) (lv' := [(8, .ref q9_), (0, .ref a0), (1, .int a1), (2, .int a2), (3, .int a3), (4, .int a4), (5, .int a5), (6, .int a6), (7, .ref a7)]) hx hb dX0_byWay_21 hl (by decide) rfl (fun ls hl => ?_)
      refine lv_iconst (pc := 23) (v := 1) hx hb dX0_byWay_23 (by decide) ?_
      refine vx_ret ?_
      exact hx_iret (τ := (x_.2.2.1, H.size)) hx hb hr rfl hlocks (Option.some.inj hd) hW hS dX0_byWay_24 (Nat.le_of_ble_eq_true rfl) (Nat.le_of_ble_eq_true rfl)
    have hd := wt_if hd c9
    by_cases c10 : x_.1 = 100
    · have hd := wt_it hd c10
      refine hx_catchJ (name := "java/lang/IllegalArgumentException") 100 hown [(⟨0, 18, 21, 32⟩ : ExceptionTableEntry)] (⟨0, 18, 25, 13⟩ : ExceptionTableEntry) [] (htab.trans rfl) c10 (by decide) rfl (fun y hy => by rcases List.mem_singleton.mp hy with rfl; exact Or.inr ⟨by decide, _, hts _ q998, hC.2.2.2.1.2.2.2.1⟩) (by decide) (by decide) (hts _ q670) (va_Nw.use rfl (hC.2.1.1 _ (hw_of q187 rfl))) hXB hce hvn hfc (fun hW => ?_)
      refine lv_astore (pc := 25) (lv' := [(8, .ref q9_), (0, .ref a0), (1, .int a1), (2, .int a2), (3, .int a3), (4, .int a4), (5, .int a5), (6, .int a6), (7, .ref a7)]) hx hb dX0_byWay_25 hl (by decide) rfl (fun ls hl => ?_)
      refine lv_iconst (pc := 27) (v := 2) hx hb dX0_byWay_27 (by decide) ?_
      refine vx_ret ?_
      exact hx_iret (τ := (x_.2.2.1, H.size)) hx hb hr rfl hlocks (Option.some.inj hd) hW hS dX0_byWay_28 (Nat.le_of_ble_eq_true rfl) (Nat.le_of_ble_eq_true rfl)
    have hd := wt_if hd c10
    exact absurd hd (by intro h; cases h)
  · have hd := wt_rs_l ho_ hd
    refine lv_i2l (pc := 16) hx hb dX0_byWay_16 rfl ?_
    obtain ⟨z5, h6, hd⟩ := wt_bd_o hd
    obtain ⟨h7, hd⟩ := wt_ck_o hd
    obtain ⟨τ8, eτ8, hd⟩ := wt_lt_o hd
    refine hr_last (pc := 17) hx hb hK hW hS h6 h7 eτ8 dX0_byWay_17 (fun H locs hW hS => ?_)
    refine lv_goto (pc := 18) (tgt := 29) hx hb dX0_byWay_18 (by decide) ?_
    refine lv_iconst (pc := 29) (v := 0) hx hb dX0_byWay_29 (by decide) ?_
    refine vx_ret ?_
    exact hx_iret (τ := τ8) hx hb hr rfl hlocks (Option.some.inj hd) hW hS dX0_byWay_30 (Nat.le_of_ble_eq_true rfl) (Nat.le_of_ble_eq_true rfl)
theorem kX0_byWay {p : Program} {l : Launch} {e : Env} {R : Room} {s : State} {m : MethodId} {args : Array Value} {below : List Frame} {meth : Method} {c : Code} {H : Heap} {locs : List Loc} {cells slots : Nat} {Q : State → Prop} {cc : ByteArray} {pc : Nat} {ls : Array Slot} {rest : List Value} {nL : Nat} {own : String} {index : Nat} {G : HG} {A : Nat → Prop} {τ : HP} {a0 : Nat} {a1 : Int32} {a2 : Int32} {a3 : Int32} {a4 : Int32} {a5 : Int32} {a6 : Int32} {a7 : Nat} {out_ : Int32 × HH} (hfl : l.stackTraces = false) (hx : p.tables.exec = Jvm.exec) (hb : c.code = cc) (hml : c.maxLocals = nL) (hown : s.vm.findClass own = some m.cls) (hts : ∀ w ∈ lw_all, w.before args s = true) (hC : Hcx G A s) (hW : Hw G A τ H) (hS : va_S A s.heap H locs) (hd : eX0_byWay τ a0 a1 a2 a3 a4 a5 a6 a7 = some out_) (hsz : ls.size = nL) (hrm : (rest.map fun v => v.category).sum ≤ 8) (hR : 9 ≤ R.frames ∧ 187 ≤ R.locals) (hcs : (cells + 5) ≤ R.cells ∧ (slots + 126) ≤ R.slots) (hlk : Cond.methodLink own index yX0_byWay ∈ lw_all) (hdg : decode cc pc = .ok (.invokestatic index, 3)) (kk : ∀ (u_ : HP) (H1 : Heap) (locs1 : List Loc), u_.1 = out_.2 → Hw G A u_ H1 → va_S A s.heap H1 locs1 → W p l e R s m args below meth c H1 locs1 (cells + 5) (slots + 126) Q (F0 m (pc + 3) ls (.int out_.1 :: rest))) : W p l e R s m args below meth c H locs cells slots Q (F0 m pc ls (.ref a7 :: .int a6 :: .int a5 :: .int a4 :: .int a3 :: .int a2 :: .int a1 :: .ref a0 :: rest)) := by
  refine vx_calli (vx_runSX (As := [.ref a0, .int a1, .int a2, .int a3, .int a4, .int a5, .int a6, .ref a7]) (rest := rest) ⟨hx, hb, hml, hown, hts⟩ (wX0_byWay l hfl hd) (vx_cwSW 8 hts (lw_SW hlk q1397 q65 q1398) rfl rfl rfl (by decide +kernel) hR) (hr_preS hC hW hS) rfl rfl hsz rfl (lv_room hrm) hdg hcs) hS (fun _ _ h => h) (fun _ h => h) (fun _ _ h => h) (fun E ce q9 u t H1 locs1 ht hvm hp hB hz hk hS1 hce hvn hfc => by cases hp) (fun r u t H1 locs1 ht hvm hp hB hz hk hS1 => ?_)
  have hp : (r, u.1) = out_ := hp
  subst hp
  have hW1 : Hw G A u t.heap := hB
  rw [ht] at hW1
  exact kk u H1 locs1 rfl hW1 hS1
noncomputable def eX0_bench (τ : HP) (a0 : Nat) (a1 : Int32) (a2 : Int32) (a3 : Int32) (a4 : Int32) (a5 : Nat) : Option (Int32 × HH) :=
  wt_ck (hcl τ a0 = some 0) <| wt_bd (eX1_bench τ a0 a1 a2 a3 a4) fun w2 => wt_rs w2 (fun o4 => wt_bd (haL o4.2 a5 4) fun z5 => wt_ck (vp_in (0 : Int32) z5.1) <| wt_lt (hst o4.2 a5 (.inl (4, z5.1, .inr (.inl (vp_updL z5.2 (0 : Int32).toNatClampNeg (Int32.toInt64 o4.1)))))) fun τ8 => some ((0 : Int32), τ8.1)) (fun x_ => if x_.1 = 101 then (some ((1 : Int32), x_.2.2.1)) else (if x_.1 = 100 then (some ((2 : Int32), x_.2.2.1)) else (none)))
set_option maxHeartbeats 4000000 in
theorem wX0_bench (l : Launch) (hfl : l.stackTraces = false) {G : HG} {A : Nat → Prop} {τ : HP} {a0 : Nat} {a1 : Int32} {a2 : Int32} {a3 : Int32} {a4 : Int32} {a5 : Nat} {out_ : Int32 × HH} (hd : eX0_bench τ a0 a1 a2 a3 a4 a5 = some out_) : vx_Met l yX0_bench (wsW_ yX0_bench cX0_bench 7 (some .int) [(0, 14, 17, 32), (0, 14, 21, 13)]) ({ frames := 12, cells := 126, slots := 4935, locals := 278 }) (hPc G A τ [.ref a0, .int a1, .int a2, .int a3, .int a4, .ref a5]) (hXi G A (fun r u => (r, u.1) = out_)) (hXX G A (Sum.inl out_ : (Int32 × HH) ⊕ (Nat × Nat × HP))) 126 4935 A := by
  refine vx_ofWH (hh := [(0, 14, 17, 32), (0, 14, 21, 13)]) (cc := cX0_bench) (maxL := 7) (ret := (some .int)) (by decide) rfl ?_
  intro p_ e_ s_ m_ args_ below_ meth_ c_ s₁_ B hml hv
  obtain ⟨rfl, hW, hC⟩ := hv
  have hx := B.exec
  have hb := B.bytes
  have hr := B.returns
  have hts := atoms_spec (ws := (wsW_ yX0_bench cX0_bench 7 (some .int) [(0, 14, 17, 32), (0, 14, 21, 13)])) B.pre
  have hts : ∀ w ∈ lw_all, w.before _ s_ = true := fun w h => hts w (List.mem_cons_of_mem _ h)
  have hown : s_.vm.findClass RX0 = some m_.cls := findClass_of_methodNamed B.named
  have htab : c_.exceptionTable.toList = tableOf [(0, 14, 17, 32), (0, 14, 21, 13)] := vx_table (x := yX0_bench) B (hts _ q1405)
  have hlocks := B.notSynchronized
  have hK := hC.1
  have hT := hC.2.1
  have hL := hC.2.2.1
  have hZ := hC.2.2.2.2.1
  have hA := hC.2.2.2.2.2
  have hS : va_S A s_.heap s_.heap [] := va_S.rf
  have hl := lv_entry ([.ref a0, .int a1, .int a2, .int a3, .int a4, .ref a5]) (n := 7) (Nat.le_of_ble_eq_true rfl)
  rw [lg_entry_eq]
  generalize (lg_sl ([.ref a0, .int a1, .int a2, .int a3, .int a4, .ref a5]) ++ List.replicate (7 - (lg_sl ([.ref a0, .int a1, .int a2, .int a3, .int a4, .ref a5])).length) Slot.unset).toArray = ls at hl ⊢
  have hl : lv_has ls 7 [(0, .ref a0), (1, .int a1), (2, .int a2), (3, .int a3), (4, .int a4), (5, .ref a5)] := hl
  unfold eX0_bench at hd
  refine lv_aload (pc := 0) hx hb dX0_bench_0 (lv_at hl 5 rfl) ?_
  refine lv_iconst (pc := 2) (v := 0) hx hb dX0_bench_2 (by decide) ?_
  refine lv_aload_n (pc := 3) hx hb dX0_bench_3 rfl (lv_at hl 0 rfl) ?_
  refine lv_iload_n (pc := 4) hx hb dX0_bench_4 rfl (lv_at hl 1 rfl) ?_
  refine lv_iload_n (pc := 5) hx hb dX0_bench_5 rfl (lv_at hl 2 rfl) ?_
  refine lv_iload_n (pc := 6) hx hb dX0_bench_6 rfl (lv_at hl 3 rfl) ?_
  refine lv_iload (pc := 7) hx hb dX0_bench_7 (lv_at hl 4 rfl) ?_
  obtain ⟨h1, hd⟩ := wt_ck_o hd
  obtain ⟨w2, hc3, hd⟩ := wt_bd_o hd
  refine kX1_bench (pc := 9) hfl hx hb hml hown hts hC hW hS h1 hc3 hl.1 (Nat.le_of_ble_eq_true rfl) ⟨Nat.le_of_ble_eq_true rfl, Nat.le_of_ble_eq_true rfl⟩ ⟨(Nat.le_of_ble_eq_true rfl), (Nat.le_of_ble_eq_true rfl)⟩ q1406 dX0_bench_9 (fun x_ hx_ E_ ce_ q9_ H locs hXB hS hce hvn hfc => ?_) (fun o4 ho_ H locs hW hS => ?_)
  · have hd := wt_rs_r hx_ hd
    by_cases c9 : x_.1 = 101
    · have hd := wt_it hd c9
      refine hx_catchJ (name := "java/util/NoSuchElementException") 101 hown [] (⟨0, 14, 17, 32⟩ : ExceptionTableEntry) [(⟨0, 14, 21, 13⟩ : ExceptionTableEntry)] (htab.trans rfl) c9 (by decide) rfl (fun y hy => by cases hy) (by decide) (by decide) (hts _ q998) (va_Nw.use rfl (hC.2.1.1 _ (hw_of q1009 rfl))) hXB hce hvn hfc (fun hW => ?_)
      refine lv_astore (pc := 17) (lv' := [(6, .ref q9_), (0, .ref a0), (1, .int a1), (2, .int a2), (3, .int a3), (4, .int a4), (5, .ref a5)]) hx hb dX0_bench_17 hl (by decide) rfl (fun ls hl => ?_)
      refine lv_iconst (pc := 19) (v := 1) hx hb dX0_bench_19 (by decide) ?_
      refine vx_ret ?_
      exact hx_iret (τ := (x_.2.2.1, H.size)) hx hb hr rfl hlocks (Option.some.inj hd) hW hS dX0_bench_20 (Nat.le_of_ble_eq_true rfl) (Nat.le_of_ble_eq_true rfl)
    have hd := wt_if hd c9
    by_cases c10 : x_.1 = 100
    · have hd := wt_it hd c10
      refine hx_catchJ (name := "java/lang/IllegalArgumentException") 100 hown [(⟨0, 14, 17, 32⟩ : ExceptionTableEntry)] (⟨0, 14, 21, 13⟩ : ExceptionTableEntry) [] (htab.trans rfl) c10 (by decide) rfl (fun y hy => by rcases List.mem_singleton.mp hy with rfl; exact Or.inr ⟨by decide, _, hts _ q998, hC.2.2.2.1.2.2.2.1⟩) (by decide) (by decide) (hts _ q670) (va_Nw.use rfl (hC.2.1.1 _ (hw_of q187 rfl))) hXB hce hvn hfc (fun hW => ?_)
      refine lv_astore (pc := 21) (lv' := [(6, .ref q9_), (0, .ref a0), (1, .int a1), (2, .int a2), (3, .int a3), (4, .int a4), (5, .ref a5)]) hx hb dX0_bench_21 hl (by decide) rfl (fun ls hl => ?_)
      refine lv_iconst (pc := 23) (v := 2) hx hb dX0_bench_23 (by decide) ?_
      refine vx_ret ?_
      exact hx_iret (τ := (x_.2.2.1, H.size)) hx hb hr rfl hlocks (Option.some.inj hd) hW hS dX0_bench_24 (Nat.le_of_ble_eq_true rfl) (Nat.le_of_ble_eq_true rfl)
    have hd := wt_if hd c10
    exact absurd hd (by intro h; cases h)
  · have hd := wt_rs_l ho_ hd
    refine lv_i2l (pc := 12) hx hb dX0_bench_12 rfl ?_
    obtain ⟨z5, h6, hd⟩ := wt_bd_o hd
    obtain ⟨h7, hd⟩ := wt_ck_o hd
    obtain ⟨τ8, eτ8, hd⟩ := wt_lt_o hd
    refine hr_last (pc := 13) hx hb hK hW hS h6 h7 eτ8 dX0_bench_13 (fun H locs hW hS => ?_)
    refine lv_goto (pc := 14) (tgt := 25) hx hb dX0_bench_14 (by decide) ?_
    refine lv_iconst (pc := 25) (v := 0) hx hb dX0_bench_25 (by decide) ?_
    refine vx_ret ?_
    exact hx_iret (τ := τ8) hx hb hr rfl hlocks (Option.some.inj hd) hW hS dX0_bench_26 (Nat.le_of_ble_eq_true rfl) (Nat.le_of_ble_eq_true rfl)
theorem kX0_bench {p : Program} {l : Launch} {e : Env} {R : Room} {s : State} {m : MethodId} {args : Array Value} {below : List Frame} {meth : Method} {c : Code} {H : Heap} {locs : List Loc} {cells slots : Nat} {Q : State → Prop} {cc : ByteArray} {pc : Nat} {ls : Array Slot} {rest : List Value} {nL : Nat} {own : String} {index : Nat} {G : HG} {A : Nat → Prop} {τ : HP} {a0 : Nat} {a1 : Int32} {a2 : Int32} {a3 : Int32} {a4 : Int32} {a5 : Nat} {out_ : Int32 × HH} (hfl : l.stackTraces = false) (hx : p.tables.exec = Jvm.exec) (hb : c.code = cc) (hml : c.maxLocals = nL) (hown : s.vm.findClass own = some m.cls) (hts : ∀ w ∈ lw_all, w.before args s = true) (hC : Hcx G A s) (hW : Hw G A τ H) (hS : va_S A s.heap H locs) (hd : eX0_bench τ a0 a1 a2 a3 a4 a5 = some out_) (hsz : ls.size = nL) (hrm : (rest.map fun v => v.category).sum ≤ 8) (hR : 13 ≤ R.frames ∧ 304 ≤ R.locals) (hcs : (cells + 126) ≤ R.cells ∧ (slots + 4935) ≤ R.slots) (hlk : Cond.methodLink own index yX0_bench ∈ lw_all) (hdg : decode cc pc = .ok (.invokestatic index, 3)) (kk : ∀ (u_ : HP) (H1 : Heap) (locs1 : List Loc), u_.1 = out_.2 → Hw G A u_ H1 → va_S A s.heap H1 locs1 → W p l e R s m args below meth c H1 locs1 (cells + 126) (slots + 4935) Q (F0 m (pc + 3) ls (.int out_.1 :: rest))) : W p l e R s m args below meth c H locs cells slots Q (F0 m pc ls (.ref a5 :: .int a4 :: .int a3 :: .int a2 :: .int a1 :: .ref a0 :: rest)) := by
  refine vx_calli (vx_runSX (As := [.ref a0, .int a1, .int a2, .int a3, .int a4, .ref a5]) (rest := rest) ⟨hx, hb, hml, hown, hts⟩ (wX0_bench l hfl hd) (vx_cwSW 6 hts (lw_SW hlk q1404 q65 q1405) rfl rfl rfl (by decide +kernel) hR) (hr_preS hC hW hS) rfl rfl hsz rfl (lv_room hrm) hdg hcs) hS (fun _ _ h => h) (fun _ h => h) (fun _ _ h => h) (fun E ce q9 u t H1 locs1 ht hvm hp hB hz hk hS1 hce hvn hfc => by cases hp) (fun r u t H1 locs1 ht hvm hp hB hz hk hS1 => ?_)
  have hp : (r, u.1) = out_ := hp
  subst hp
  have hW1 : Hw G A u t.heap := hB
  rw [ht] at hW1
  exact kk u H1 locs1 rfl hW1 hS1
noncomputable def eX0_after (τ : HP) (a0 : Nat) (a1 : Int32) (a2 : Int32) (a3 : Int32) (a4 : Int32) (a5 : Nat) : Option (Int32 × HH) :=
  wt_ck (hcl τ a0 = some 0) <| wt_bd (eX1_after τ a0 a1 a2 a3 a4) fun w2 => wt_rs w2 (fun o4 => wt_bd (haL τ a5 4) fun z5 => wt_ck (vp_in (0 : Int32) z5.1) <| wt_lt (hst τ a5 (.inl (4, z5.1, .inr (.inl (vp_updL z5.2 (0 : Int32).toNatClampNeg (Int32.toInt64 o4)))))) fun τ8 => some ((0 : Int32), τ8.1)) (fun x_ => if x_.1 = 100 then (some ((1 : Int32), x_.2.2.1)) else (none))
set_option maxHeartbeats 4000000 in
theorem wX0_after (l : Launch) (hfl : l.stackTraces = false) {G : HG} {A : Nat → Prop} {τ : HP} {a0 : Nat} {a1 : Int32} {a2 : Int32} {a3 : Int32} {a4 : Int32} {a5 : Nat} {out_ : Int32 × HH} (hd : eX0_after τ a0 a1 a2 a3 a4 a5 = some out_) : vx_Met l yX0_after (wsW_ yX0_after cX0_after 7 (some .int) [(0, 14, 17, 13)]) ({ frames := 8, cells := 1, slots := 6, locals := 158 }) (hPc G A τ [.ref a0, .int a1, .int a2, .int a3, .int a4, .ref a5]) (hXi G A (fun r u => (r, u.1) = out_)) (hXX G A (Sum.inl out_ : (Int32 × HH) ⊕ (Nat × Nat × HP))) 1 6 A := by
  refine vx_ofWH (hh := [(0, 14, 17, 13)]) (cc := cX0_after) (maxL := 7) (ret := (some .int)) (by decide) rfl ?_
  intro p_ e_ s_ m_ args_ below_ meth_ c_ s₁_ B hml hv
  obtain ⟨rfl, hW, hC⟩ := hv
  have hx := B.exec
  have hb := B.bytes
  have hr := B.returns
  have hts := atoms_spec (ws := (wsW_ yX0_after cX0_after 7 (some .int) [(0, 14, 17, 13)])) B.pre
  have hts : ∀ w ∈ lw_all, w.before _ s_ = true := fun w h => hts w (List.mem_cons_of_mem _ h)
  have hown : s_.vm.findClass RX0 = some m_.cls := findClass_of_methodNamed B.named
  have htab : c_.exceptionTable.toList = tableOf [(0, 14, 17, 13)] := vx_table (x := yX0_after) B (hts _ q1414)
  have hlocks := B.notSynchronized
  have hK := hC.1
  have hT := hC.2.1
  have hL := hC.2.2.1
  have hZ := hC.2.2.2.2.1
  have hA := hC.2.2.2.2.2
  have hS : va_S A s_.heap s_.heap [] := va_S.rf
  have hl := lv_entry ([.ref a0, .int a1, .int a2, .int a3, .int a4, .ref a5]) (n := 7) (Nat.le_of_ble_eq_true rfl)
  rw [lg_entry_eq]
  generalize (lg_sl ([.ref a0, .int a1, .int a2, .int a3, .int a4, .ref a5]) ++ List.replicate (7 - (lg_sl ([.ref a0, .int a1, .int a2, .int a3, .int a4, .ref a5])).length) Slot.unset).toArray = ls at hl ⊢
  have hl : lv_has ls 7 [(0, .ref a0), (1, .int a1), (2, .int a2), (3, .int a3), (4, .int a4), (5, .ref a5)] := hl
  unfold eX0_after at hd
  refine lv_aload (pc := 0) hx hb dX0_after_0 (lv_at hl 5 rfl) ?_
  refine lv_iconst (pc := 2) (v := 0) hx hb dX0_after_2 (by decide) ?_
  refine lv_aload_n (pc := 3) hx hb dX0_after_3 rfl (lv_at hl 0 rfl) ?_
  refine lv_iload_n (pc := 4) hx hb dX0_after_4 rfl (lv_at hl 1 rfl) ?_
  refine lv_iload_n (pc := 5) hx hb dX0_after_5 rfl (lv_at hl 2 rfl) ?_
  refine lv_iload_n (pc := 6) hx hb dX0_after_6 rfl (lv_at hl 3 rfl) ?_
  refine lv_iload (pc := 7) hx hb dX0_after_7 (lv_at hl 4 rfl) ?_
  obtain ⟨h1, hd⟩ := wt_ck_o hd
  obtain ⟨w2, hc3, hd⟩ := wt_bd_o hd
  refine kX1_after (pc := 9) hfl hx hb hml hown hts hC hW hS h1 hc3 hl.1 (Nat.le_of_ble_eq_true rfl) ⟨Nat.le_of_ble_eq_true rfl, Nat.le_of_ble_eq_true rfl⟩ ⟨(Nat.le_of_ble_eq_true rfl), (Nat.le_of_ble_eq_true rfl)⟩ q1415 dX0_after_9 (fun x_ hx_ E_ ce_ q9_ H locs hXB hS hce hvn hfc => ?_) (fun o4 ho_ H locs hW hS => ?_)
  · have hd := wt_rs_r hx_ hd
    by_cases c9 : x_.1 = 100
    · have hd := wt_it hd c9
      refine hx_catchJ (name := "java/lang/IllegalArgumentException") 100 hown [] (⟨0, 14, 17, 13⟩ : ExceptionTableEntry) [] (htab.trans rfl) c9 (by decide) rfl (fun y hy => by cases hy) (by decide) (by decide) (hts _ q670) (va_Nw.use rfl (hC.2.1.1 _ (hw_of q187 rfl))) hXB hce hvn hfc (fun hW => ?_)
      refine lv_astore (pc := 17) (lv' := [(6, .ref q9_), (0, .ref a0), (1, .int a1), (2, .int a2), (3, .int a3), (4, .int a4), (5, .ref a5)]) hx hb dX0_after_17 hl (by decide) rfl (fun ls hl => ?_)
      refine lv_iconst (pc := 19) (v := 1) hx hb dX0_after_19 (by decide) ?_
      refine vx_ret ?_
      exact hx_iret (τ := (x_.2.2.1, H.size)) hx hb hr rfl hlocks (Option.some.inj hd) hW hS dX0_after_20 (Nat.le_of_ble_eq_true rfl) (Nat.le_of_ble_eq_true rfl)
    have hd := wt_if hd c9
    exact absurd hd (by intro h; cases h)
  · have hd := wt_rs_l ho_ hd
    refine lv_i2l (pc := 12) hx hb dX0_after_12 rfl ?_
    obtain ⟨z5, h6, hd⟩ := wt_bd_o hd
    obtain ⟨h7, hd⟩ := wt_ck_o hd
    obtain ⟨τ8, eτ8, hd⟩ := wt_lt_o hd
    refine hr_last (pc := 13) hx hb hK hW hS h6 h7 eτ8 dX0_after_13 (fun H locs hW hS => ?_)
    refine lv_goto (pc := 14) (tgt := 21) hx hb dX0_after_14 (by decide) ?_
    refine lv_iconst (pc := 21) (v := 0) hx hb dX0_after_21 (by decide) ?_
    refine vx_ret ?_
    exact hx_iret (τ := τ8) hx hb hr rfl hlocks (Option.some.inj hd) hW hS dX0_after_22 (Nat.le_of_ble_eq_true rfl) (Nat.le_of_ble_eq_true rfl)
theorem kX0_after {p : Program} {l : Launch} {e : Env} {R : Room} {s : State} {m : MethodId} {args : Array Value} {below : List Frame} {meth : Method} {c : Code} {H : Heap} {locs : List Loc} {cells slots : Nat} {Q : State → Prop} {cc : ByteArray} {pc : Nat} {ls : Array Slot} {rest : List Value} {nL : Nat} {own : String} {index : Nat} {G : HG} {A : Nat → Prop} {τ : HP} {a0 : Nat} {a1 : Int32} {a2 : Int32} {a3 : Int32} {a4 : Int32} {a5 : Nat} {out_ : Int32 × HH} (hfl : l.stackTraces = false) (hx : p.tables.exec = Jvm.exec) (hb : c.code = cc) (hml : c.maxLocals = nL) (hown : s.vm.findClass own = some m.cls) (hts : ∀ w ∈ lw_all, w.before args s = true) (hC : Hcx G A s) (hW : Hw G A τ H) (hS : va_S A s.heap H locs) (hd : eX0_after τ a0 a1 a2 a3 a4 a5 = some out_) (hsz : ls.size = nL) (hrm : (rest.map fun v => v.category).sum ≤ 8) (hR : 9 ≤ R.frames ∧ 184 ≤ R.locals) (hcs : (cells + 1) ≤ R.cells ∧ (slots + 6) ≤ R.slots) (hlk : Cond.methodLink own index yX0_after ∈ lw_all) (hdg : decode cc pc = .ok (.invokestatic index, 3)) (kk : ∀ (u_ : HP) (H1 : Heap) (locs1 : List Loc), u_.1 = out_.2 → Hw G A u_ H1 → va_S A s.heap H1 locs1 → W p l e R s m args below meth c H1 locs1 (cells + 1) (slots + 6) Q (F0 m (pc + 3) ls (.int out_.1 :: rest))) : W p l e R s m args below meth c H locs cells slots Q (F0 m pc ls (.ref a5 :: .int a4 :: .int a3 :: .int a2 :: .int a1 :: .ref a0 :: rest)) := by
  refine vx_calli (vx_runSX (As := [.ref a0, .int a1, .int a2, .int a3, .int a4, .ref a5]) (rest := rest) ⟨hx, hb, hml, hown, hts⟩ (wX0_after l hfl hd) (vx_cwSW 6 hts (lw_SW hlk q1413 q65 q1414) rfl rfl rfl (by decide +kernel) hR) (hr_preS hC hW hS) rfl rfl hsz rfl (lv_room hrm) hdg hcs) hS (fun _ _ h => h) (fun _ h => h) (fun _ _ h => h) (fun E ce q9 u t H1 locs1 ht hvm hp hB hz hk hS1 hce hvn hfc => by cases hp) (fun r u t H1 locs1 ht hvm hp hB hz hk hS1 => ?_)
  have hp : (r, u.1) = out_ := hp
  subst hp
  have hW1 : Hw G A u t.heap := hB
  rw [ht] at hW1
  exact kk u H1 locs1 rfl hW1 hS1
noncomputable def eX0_seat (τ : HP) (a0 : Nat) (a1 : Int32) (a2 : Nat) : Option (Int32 × HH) :=
  wt_ck (hcl τ a0 = some 0) <| wt_bd (eX1_seat τ a0 a1) fun w2 => wt_rs w2 (fun o4 => wt_bd (haL o4.2 a2 4) fun z5 => wt_ck (vp_in (0 : Int32) z5.1) <| wt_lt (hst o4.2 a2 (.inl (4, z5.1, .inr (.inl (vp_updL z5.2 (0 : Int32).toNatClampNeg (Int32.toInt64 o4.1)))))) fun τ8 => some ((0 : Int32), τ8.1)) (fun x_ => if x_.1 = 100 then (some ((1 : Int32), x_.2.2.1)) else (none))
set_option maxHeartbeats 4000000 in
theorem wX0_seat (l : Launch) (hfl : l.stackTraces = false) {G : HG} {A : Nat → Prop} {τ : HP} {a0 : Nat} {a1 : Int32} {a2 : Nat} {out_ : Int32 × HH} (hd : eX0_seat τ a0 a1 a2 = some out_) : vx_Met l yX0_seat (wsW_ yX0_seat cX0_seat 4 (some .int) [(0, 9, 12, 13)]) ({ frames := 8, cells := 1, slots := 6, locals := 151 }) (hPc G A τ [.ref a0, .int a1, .ref a2]) (hXi G A (fun r u => (r, u.1) = out_)) (hXX G A (Sum.inl out_ : (Int32 × HH) ⊕ (Nat × Nat × HP))) 1 6 A := by
  refine vx_ofWH (hh := [(0, 9, 12, 13)]) (cc := cX0_seat) (maxL := 4) (ret := (some .int)) (by decide) rfl ?_
  intro p_ e_ s_ m_ args_ below_ meth_ c_ s₁_ B hml hv
  obtain ⟨rfl, hW, hC⟩ := hv
  have hx := B.exec
  have hb := B.bytes
  have hr := B.returns
  have hts := atoms_spec (ws := (wsW_ yX0_seat cX0_seat 4 (some .int) [(0, 9, 12, 13)])) B.pre
  have hts : ∀ w ∈ lw_all, w.before _ s_ = true := fun w h => hts w (List.mem_cons_of_mem _ h)
  have hown : s_.vm.findClass RX0 = some m_.cls := findClass_of_methodNamed B.named
  have htab : c_.exceptionTable.toList = tableOf [(0, 9, 12, 13)] := vx_table (x := yX0_seat) B (hts _ q1427)
  have hlocks := B.notSynchronized
  have hK := hC.1
  have hT := hC.2.1
  have hL := hC.2.2.1
  have hZ := hC.2.2.2.2.1
  have hA := hC.2.2.2.2.2
  have hS : va_S A s_.heap s_.heap [] := va_S.rf
  have hl := lv_entry ([.ref a0, .int a1, .ref a2]) (n := 4) (Nat.le_of_ble_eq_true rfl)
  rw [lg_entry_eq]
  generalize (lg_sl ([.ref a0, .int a1, .ref a2]) ++ List.replicate (4 - (lg_sl ([.ref a0, .int a1, .ref a2])).length) Slot.unset).toArray = ls at hl ⊢
  have hl : lv_has ls 4 [(0, .ref a0), (1, .int a1), (2, .ref a2)] := hl
  unfold eX0_seat at hd
  refine lv_aload_n (pc := 0) hx hb dX0_seat_0 rfl (lv_at hl 2 rfl) ?_
  refine lv_iconst (pc := 1) (v := 0) hx hb dX0_seat_1 (by decide) ?_
  refine lv_aload_n (pc := 2) hx hb dX0_seat_2 rfl (lv_at hl 0 rfl) ?_
  refine lv_iload_n (pc := 3) hx hb dX0_seat_3 rfl (lv_at hl 1 rfl) ?_
  obtain ⟨h1, hd⟩ := wt_ck_o hd
  obtain ⟨w2, hc3, hd⟩ := wt_bd_o hd
  refine kX1_seat (pc := 4) hfl hx hb hml hown hts hC hW hS h1 hc3 hl.1 (Nat.le_of_ble_eq_true rfl) ⟨Nat.le_of_ble_eq_true rfl, Nat.le_of_ble_eq_true rfl⟩ ⟨(Nat.le_of_ble_eq_true rfl), (Nat.le_of_ble_eq_true rfl)⟩ q1428 dX0_seat_4 (fun x_ hx_ E_ ce_ q9_ H locs hXB hS hce hvn hfc => ?_) (fun o4 ho_ H locs hW hS => ?_)
  · have hd := wt_rs_r hx_ hd
    by_cases c9 : x_.1 = 100
    · have hd := wt_it hd c9
      refine hx_catchJ (name := "java/lang/IllegalArgumentException") 100 hown [] (⟨0, 9, 12, 13⟩ : ExceptionTableEntry) [] (htab.trans rfl) c9 (by decide) rfl (fun y hy => by cases hy) (by decide) (by decide) (hts _ q670) (va_Nw.use rfl (hC.2.1.1 _ (hw_of q187 rfl))) hXB hce hvn hfc (fun hW => ?_)
      refine lv_astore_n (pc := 12) (lv' := [(3, .ref q9_), (0, .ref a0), (1, .int a1), (2, .ref a2)]) hx hb dX0_seat_12 rfl hl (by decide) rfl (fun ls hl => ?_)
      refine lv_iconst (pc := 13) (v := 1) hx hb dX0_seat_13 (by decide) ?_
      refine vx_ret ?_
      exact hx_iret (τ := (x_.2.2.1, H.size)) hx hb hr rfl hlocks (Option.some.inj hd) hW hS dX0_seat_14 (Nat.le_of_ble_eq_true rfl) (Nat.le_of_ble_eq_true rfl)
    have hd := wt_if hd c9
    exact absurd hd (by intro h; cases h)
  · have hd := wt_rs_l ho_ hd
    refine lv_i2l (pc := 7) hx hb dX0_seat_7 rfl ?_
    obtain ⟨z5, h6, hd⟩ := wt_bd_o hd
    obtain ⟨h7, hd⟩ := wt_ck_o hd
    obtain ⟨τ8, eτ8, hd⟩ := wt_lt_o hd
    refine hr_last (pc := 8) hx hb hK hW hS h6 h7 eτ8 dX0_seat_8 (fun H locs hW hS => ?_)
    refine lv_goto (pc := 9) (tgt := 15) hx hb dX0_seat_9 (by decide) ?_
    refine lv_iconst (pc := 15) (v := 0) hx hb dX0_seat_15 (by decide) ?_
    refine vx_ret ?_
    exact hx_iret (τ := τ8) hx hb hr rfl hlocks (Option.some.inj hd) hW hS dX0_seat_16 (Nat.le_of_ble_eq_true rfl) (Nat.le_of_ble_eq_true rfl)
theorem kX0_seat {p : Program} {l : Launch} {e : Env} {R : Room} {s : State} {m : MethodId} {args : Array Value} {below : List Frame} {meth : Method} {c : Code} {H : Heap} {locs : List Loc} {cells slots : Nat} {Q : State → Prop} {cc : ByteArray} {pc : Nat} {ls : Array Slot} {rest : List Value} {nL : Nat} {own : String} {index : Nat} {G : HG} {A : Nat → Prop} {τ : HP} {a0 : Nat} {a1 : Int32} {a2 : Nat} {out_ : Int32 × HH} (hfl : l.stackTraces = false) (hx : p.tables.exec = Jvm.exec) (hb : c.code = cc) (hml : c.maxLocals = nL) (hown : s.vm.findClass own = some m.cls) (hts : ∀ w ∈ lw_all, w.before args s = true) (hC : Hcx G A s) (hW : Hw G A τ H) (hS : va_S A s.heap H locs) (hd : eX0_seat τ a0 a1 a2 = some out_) (hsz : ls.size = nL) (hrm : (rest.map fun v => v.category).sum ≤ 8) (hR : 9 ≤ R.frames ∧ 174 ≤ R.locals) (hcs : (cells + 1) ≤ R.cells ∧ (slots + 6) ≤ R.slots) (hlk : Cond.methodLink own index yX0_seat ∈ lw_all) (hdg : decode cc pc = .ok (.invokestatic index, 3)) (kk : ∀ (u_ : HP) (H1 : Heap) (locs1 : List Loc), u_.1 = out_.2 → Hw G A u_ H1 → va_S A s.heap H1 locs1 → W p l e R s m args below meth c H1 locs1 (cells + 1) (slots + 6) Q (F0 m (pc + 3) ls (.int out_.1 :: rest))) : W p l e R s m args below meth c H locs cells slots Q (F0 m pc ls (.ref a2 :: .int a1 :: .ref a0 :: rest)) := by
  refine vx_calli (vx_runSX (As := [.ref a0, .int a1, .ref a2]) (rest := rest) ⟨hx, hb, hml, hown, hts⟩ (wX0_seat l hfl hd) (vx_cwSW 3 hts (lw_SW hlk q1426 q65 q1427) rfl rfl rfl (by decide +kernel) hR) (hr_preS hC hW hS) rfl rfl hsz rfl (lv_room hrm) hdg hcs) hS (fun _ _ h => h) (fun _ h => h) (fun _ _ h => h) (fun E ce q9 u t H1 locs1 ht hvm hp hB hz hk hS1 hce hvn hfc => by cases hp) (fun r u t H1 locs1 ht hvm hp hB hz hk hS1 => ?_)
  have hp : (r, u.1) = out_ := hp
  subst hp
  have hW1 : Hw G A u t.heap := hB
  rw [ht] at hW1
  exact kk u H1 locs1 rfl hW1 hS1
noncomputable def eX0_share (τ : HP) (a0 : Nat) (a1 : Int32) (a2 : Nat) : Option (Int32 × HH) :=
  wt_ck (hcl τ a0 = some 0) <| wt_bd (eX1_share τ a0 a1) fun w2 => wt_rs w2 (fun o4 => wt_bd (haL τ a2 4) fun z5 => wt_ck (vp_in (0 : Int32) z5.1) <| wt_lt (hst τ a2 (.inl (4, z5.1, .inr (.inl (vp_updL z5.2 (0 : Int32).toNatClampNeg (Int32.toInt64 o4)))))) fun τ8 => some ((0 : Int32), τ8.1)) (fun x_ => if x_.1 = 100 then (some ((1 : Int32), x_.2.2.1)) else (none))
set_option maxHeartbeats 4000000 in
theorem wX0_share (l : Launch) (hfl : l.stackTraces = false) {G : HG} {A : Nat → Prop} {τ : HP} {a0 : Nat} {a1 : Int32} {a2 : Nat} {out_ : Int32 × HH} (hd : eX0_share τ a0 a1 a2 = some out_) : vx_Met l yX0_share (wsW_ yX0_share cX0_share 4 (some .int) [(0, 9, 12, 13)]) ({ frames := 8, cells := 1, slots := 6, locals := 151 }) (hPc G A τ [.ref a0, .int a1, .ref a2]) (hXi G A (fun r u => (r, u.1) = out_)) (hXX G A (Sum.inl out_ : (Int32 × HH) ⊕ (Nat × Nat × HP))) 1 6 A := by
  refine vx_ofWH (hh := [(0, 9, 12, 13)]) (cc := cX0_share) (maxL := 4) (ret := (some .int)) (by decide) rfl ?_
  intro p_ e_ s_ m_ args_ below_ meth_ c_ s₁_ B hml hv
  obtain ⟨rfl, hW, hC⟩ := hv
  have hx := B.exec
  have hb := B.bytes
  have hr := B.returns
  have hts := atoms_spec (ws := (wsW_ yX0_share cX0_share 4 (some .int) [(0, 9, 12, 13)])) B.pre
  have hts : ∀ w ∈ lw_all, w.before _ s_ = true := fun w h => hts w (List.mem_cons_of_mem _ h)
  have hown : s_.vm.findClass RX0 = some m_.cls := findClass_of_methodNamed B.named
  have htab : c_.exceptionTable.toList = tableOf [(0, 9, 12, 13)] := vx_table (x := yX0_share) B (hts _ q1434)
  have hlocks := B.notSynchronized
  have hK := hC.1
  have hT := hC.2.1
  have hL := hC.2.2.1
  have hZ := hC.2.2.2.2.1
  have hA := hC.2.2.2.2.2
  have hS : va_S A s_.heap s_.heap [] := va_S.rf
  have hl := lv_entry ([.ref a0, .int a1, .ref a2]) (n := 4) (Nat.le_of_ble_eq_true rfl)
  rw [lg_entry_eq]
  generalize (lg_sl ([.ref a0, .int a1, .ref a2]) ++ List.replicate (4 - (lg_sl ([.ref a0, .int a1, .ref a2])).length) Slot.unset).toArray = ls at hl ⊢
  have hl : lv_has ls 4 [(0, .ref a0), (1, .int a1), (2, .ref a2)] := hl
  unfold eX0_share at hd
  refine lv_aload_n (pc := 0) hx hb dX0_share_0 rfl (lv_at hl 2 rfl) ?_
  refine lv_iconst (pc := 1) (v := 0) hx hb dX0_share_1 (by decide) ?_
  refine lv_aload_n (pc := 2) hx hb dX0_share_2 rfl (lv_at hl 0 rfl) ?_
  refine lv_iload_n (pc := 3) hx hb dX0_share_3 rfl (lv_at hl 1 rfl) ?_
  obtain ⟨h1, hd⟩ := wt_ck_o hd
  obtain ⟨w2, hc3, hd⟩ := wt_bd_o hd
  refine kX1_share (pc := 4) hfl hx hb hml hown hts hC hW hS h1 hc3 hl.1 (Nat.le_of_ble_eq_true rfl) ⟨Nat.le_of_ble_eq_true rfl, Nat.le_of_ble_eq_true rfl⟩ ⟨(Nat.le_of_ble_eq_true rfl), (Nat.le_of_ble_eq_true rfl)⟩ q1435 dX0_share_4 (fun x_ hx_ E_ ce_ q9_ H locs hXB hS hce hvn hfc => ?_) (fun o4 ho_ H locs hW hS => ?_)
  · have hd := wt_rs_r hx_ hd
    by_cases c9 : x_.1 = 100
    · have hd := wt_it hd c9
      refine hx_catchJ (name := "java/lang/IllegalArgumentException") 100 hown [] (⟨0, 9, 12, 13⟩ : ExceptionTableEntry) [] (htab.trans rfl) c9 (by decide) rfl (fun y hy => by cases hy) (by decide) (by decide) (hts _ q670) (va_Nw.use rfl (hC.2.1.1 _ (hw_of q187 rfl))) hXB hce hvn hfc (fun hW => ?_)
      refine lv_astore_n (pc := 12) (lv' := [(3, .ref q9_), (0, .ref a0), (1, .int a1), (2, .ref a2)]) hx hb dX0_share_12 rfl hl (by decide) rfl (fun ls hl => ?_)
      refine lv_iconst (pc := 13) (v := 1) hx hb dX0_share_13 (by decide) ?_
      refine vx_ret ?_
      exact hx_iret (τ := (x_.2.2.1, H.size)) hx hb hr rfl hlocks (Option.some.inj hd) hW hS dX0_share_14 (Nat.le_of_ble_eq_true rfl) (Nat.le_of_ble_eq_true rfl)
    have hd := wt_if hd c9
    exact absurd hd (by intro h; cases h)
  · have hd := wt_rs_l ho_ hd
    refine lv_i2l (pc := 7) hx hb dX0_share_7 rfl ?_
    obtain ⟨z5, h6, hd⟩ := wt_bd_o hd
    obtain ⟨h7, hd⟩ := wt_ck_o hd
    obtain ⟨τ8, eτ8, hd⟩ := wt_lt_o hd
    refine hr_last (pc := 8) hx hb hK hW hS h6 h7 eτ8 dX0_share_8 (fun H locs hW hS => ?_)
    refine lv_goto (pc := 9) (tgt := 15) hx hb dX0_share_9 (by decide) ?_
    refine lv_iconst (pc := 15) (v := 0) hx hb dX0_share_15 (by decide) ?_
    refine vx_ret ?_
    exact hx_iret (τ := τ8) hx hb hr rfl hlocks (Option.some.inj hd) hW hS dX0_share_16 (Nat.le_of_ble_eq_true rfl) (Nat.le_of_ble_eq_true rfl)
theorem kX0_share {p : Program} {l : Launch} {e : Env} {R : Room} {s : State} {m : MethodId} {args : Array Value} {below : List Frame} {meth : Method} {c : Code} {H : Heap} {locs : List Loc} {cells slots : Nat} {Q : State → Prop} {cc : ByteArray} {pc : Nat} {ls : Array Slot} {rest : List Value} {nL : Nat} {own : String} {index : Nat} {G : HG} {A : Nat → Prop} {τ : HP} {a0 : Nat} {a1 : Int32} {a2 : Nat} {out_ : Int32 × HH} (hfl : l.stackTraces = false) (hx : p.tables.exec = Jvm.exec) (hb : c.code = cc) (hml : c.maxLocals = nL) (hown : s.vm.findClass own = some m.cls) (hts : ∀ w ∈ lw_all, w.before args s = true) (hC : Hcx G A s) (hW : Hw G A τ H) (hS : va_S A s.heap H locs) (hd : eX0_share τ a0 a1 a2 = some out_) (hsz : ls.size = nL) (hrm : (rest.map fun v => v.category).sum ≤ 8) (hR : 9 ≤ R.frames ∧ 174 ≤ R.locals) (hcs : (cells + 1) ≤ R.cells ∧ (slots + 6) ≤ R.slots) (hlk : Cond.methodLink own index yX0_share ∈ lw_all) (hdg : decode cc pc = .ok (.invokestatic index, 3)) (kk : ∀ (u_ : HP) (H1 : Heap) (locs1 : List Loc), u_.1 = out_.2 → Hw G A u_ H1 → va_S A s.heap H1 locs1 → W p l e R s m args below meth c H1 locs1 (cells + 1) (slots + 6) Q (F0 m (pc + 3) ls (.int out_.1 :: rest))) : W p l e R s m args below meth c H locs cells slots Q (F0 m pc ls (.ref a2 :: .int a1 :: .ref a0 :: rest)) := by
  refine vx_calli (vx_runSX (As := [.ref a0, .int a1, .ref a2]) (rest := rest) ⟨hx, hb, hml, hown, hts⟩ (wX0_share l hfl hd) (vx_cwSW 3 hts (lw_SW hlk q1433 q65 q1434) rfl rfl rfl (by decide +kernel) hR) (hr_preS hC hW hS) rfl rfl hsz rfl (lv_room hrm) hdg hcs) hS (fun _ _ h => h) (fun _ h => h) (fun _ _ h => h) (fun E ce q9 u t H1 locs1 ht hvm hp hB hz hk hS1 hce hvn hfc => by cases hp) (fun r u t H1 locs1 ht hvm hp hB hz hk hS1 => ?_)
  have hp : (r, u.1) = out_ := hp
  subst hp
  have hW1 : Hw G A u t.heap := hB
  rw [ht] at hW1
  exact kk u H1 locs1 rfl hW1 hS1
noncomputable def eX0_together (τ : HP) (a0 : Nat) (a1 : Int32) (a2 : Int32) (a3 : Nat) : Option (Int32 × HH) :=
  wt_ck (hcl τ a0 = some 0) <| wt_bd (eX1_together τ a0 a1 a2) fun w2 => wt_rs w2 (fun o4 => wt_bd (haL τ a3 4) fun z5 => wt_ck (vp_in (0 : Int32) z5.1) <| wt_lt (hst τ a3 (.inl (4, z5.1, .inr (.inl (vp_updL z5.2 (0 : Int32).toNatClampNeg (Int32.toInt64 o4)))))) fun τ8 => some ((0 : Int32), τ8.1)) (fun x_ => if x_.1 = 100 then (some ((1 : Int32), x_.2.2.1)) else (none))
set_option maxHeartbeats 4000000 in
theorem wX0_together (l : Launch) (hfl : l.stackTraces = false) {G : HG} {A : Nat → Prop} {τ : HP} {a0 : Nat} {a1 : Int32} {a2 : Int32} {a3 : Nat} {out_ : Int32 × HH} (hd : eX0_together τ a0 a1 a2 a3 = some out_) : vx_Met l yX0_together (wsW_ yX0_together cX0_together 5 (some .int) [(0, 10, 13, 13)]) ({ frames := 8, cells := 1, slots := 6, locals := 152 }) (hPc G A τ [.ref a0, .int a1, .int a2, .ref a3]) (hXi G A (fun r u => (r, u.1) = out_)) (hXX G A (Sum.inl out_ : (Int32 × HH) ⊕ (Nat × Nat × HP))) 1 6 A := by
  refine vx_ofWH (hh := [(0, 10, 13, 13)]) (cc := cX0_together) (maxL := 5) (ret := (some .int)) (by decide) rfl ?_
  intro p_ e_ s_ m_ args_ below_ meth_ c_ s₁_ B hml hv
  obtain ⟨rfl, hW, hC⟩ := hv
  have hx := B.exec
  have hb := B.bytes
  have hr := B.returns
  have hts := atoms_spec (ws := (wsW_ yX0_together cX0_together 5 (some .int) [(0, 10, 13, 13)])) B.pre
  have hts : ∀ w ∈ lw_all, w.before _ s_ = true := fun w h => hts w (List.mem_cons_of_mem _ h)
  have hown : s_.vm.findClass RX0 = some m_.cls := findClass_of_methodNamed B.named
  have htab : c_.exceptionTable.toList = tableOf [(0, 10, 13, 13)] := vx_table (x := yX0_together) B (hts _ q1445)
  have hlocks := B.notSynchronized
  have hK := hC.1
  have hT := hC.2.1
  have hL := hC.2.2.1
  have hZ := hC.2.2.2.2.1
  have hA := hC.2.2.2.2.2
  have hS : va_S A s_.heap s_.heap [] := va_S.rf
  have hl := lv_entry ([.ref a0, .int a1, .int a2, .ref a3]) (n := 5) (Nat.le_of_ble_eq_true rfl)
  rw [lg_entry_eq]
  generalize (lg_sl ([.ref a0, .int a1, .int a2, .ref a3]) ++ List.replicate (5 - (lg_sl ([.ref a0, .int a1, .int a2, .ref a3])).length) Slot.unset).toArray = ls at hl ⊢
  have hl : lv_has ls 5 [(0, .ref a0), (1, .int a1), (2, .int a2), (3, .ref a3)] := hl
  unfold eX0_together at hd
  refine lv_aload_n (pc := 0) hx hb dX0_together_0 rfl (lv_at hl 3 rfl) ?_
  refine lv_iconst (pc := 1) (v := 0) hx hb dX0_together_1 (by decide) ?_
  refine lv_aload_n (pc := 2) hx hb dX0_together_2 rfl (lv_at hl 0 rfl) ?_
  refine lv_iload_n (pc := 3) hx hb dX0_together_3 rfl (lv_at hl 1 rfl) ?_
  refine lv_iload_n (pc := 4) hx hb dX0_together_4 rfl (lv_at hl 2 rfl) ?_
  obtain ⟨h1, hd⟩ := wt_ck_o hd
  obtain ⟨w2, hc3, hd⟩ := wt_bd_o hd
  refine kX1_together (pc := 5) hfl hx hb hml hown hts hC hW hS h1 hc3 hl.1 (Nat.le_of_ble_eq_true rfl) ⟨Nat.le_of_ble_eq_true rfl, Nat.le_of_ble_eq_true rfl⟩ ⟨(Nat.le_of_ble_eq_true rfl), (Nat.le_of_ble_eq_true rfl)⟩ q1446 dX0_together_5 (fun x_ hx_ E_ ce_ q9_ H locs hXB hS hce hvn hfc => ?_) (fun o4 ho_ H locs hW hS => ?_)
  · have hd := wt_rs_r hx_ hd
    by_cases c9 : x_.1 = 100
    · have hd := wt_it hd c9
      refine hx_catchJ (name := "java/lang/IllegalArgumentException") 100 hown [] (⟨0, 10, 13, 13⟩ : ExceptionTableEntry) [] (htab.trans rfl) c9 (by decide) rfl (fun y hy => by cases hy) (by decide) (by decide) (hts _ q670) (va_Nw.use rfl (hC.2.1.1 _ (hw_of q187 rfl))) hXB hce hvn hfc (fun hW => ?_)
      refine lv_astore (pc := 13) (lv' := [(4, .ref q9_), (0, .ref a0), (1, .int a1), (2, .int a2), (3, .ref a3)]) hx hb dX0_together_13 hl (by decide) rfl (fun ls hl => ?_)
      refine lv_iconst (pc := 15) (v := 1) hx hb dX0_together_15 (by decide) ?_
      refine vx_ret ?_
      exact hx_iret (τ := (x_.2.2.1, H.size)) hx hb hr rfl hlocks (Option.some.inj hd) hW hS dX0_together_16 (Nat.le_of_ble_eq_true rfl) (Nat.le_of_ble_eq_true rfl)
    have hd := wt_if hd c9
    exact absurd hd (by intro h; cases h)
  · have hd := wt_rs_l ho_ hd
    refine lv_i2l (pc := 8) hx hb dX0_together_8 rfl ?_
    obtain ⟨z5, h6, hd⟩ := wt_bd_o hd
    obtain ⟨h7, hd⟩ := wt_ck_o hd
    obtain ⟨τ8, eτ8, hd⟩ := wt_lt_o hd
    refine hr_last (pc := 9) hx hb hK hW hS h6 h7 eτ8 dX0_together_9 (fun H locs hW hS => ?_)
    refine lv_goto (pc := 10) (tgt := 17) hx hb dX0_together_10 (by decide) ?_
    refine lv_iconst (pc := 17) (v := 0) hx hb dX0_together_17 (by decide) ?_
    refine vx_ret ?_
    exact hx_iret (τ := τ8) hx hb hr rfl hlocks (Option.some.inj hd) hW hS dX0_together_18 (Nat.le_of_ble_eq_true rfl) (Nat.le_of_ble_eq_true rfl)
theorem kX0_together {p : Program} {l : Launch} {e : Env} {R : Room} {s : State} {m : MethodId} {args : Array Value} {below : List Frame} {meth : Method} {c : Code} {H : Heap} {locs : List Loc} {cells slots : Nat} {Q : State → Prop} {cc : ByteArray} {pc : Nat} {ls : Array Slot} {rest : List Value} {nL : Nat} {own : String} {index : Nat} {G : HG} {A : Nat → Prop} {τ : HP} {a0 : Nat} {a1 : Int32} {a2 : Int32} {a3 : Nat} {out_ : Int32 × HH} (hfl : l.stackTraces = false) (hx : p.tables.exec = Jvm.exec) (hb : c.code = cc) (hml : c.maxLocals = nL) (hown : s.vm.findClass own = some m.cls) (hts : ∀ w ∈ lw_all, w.before args s = true) (hC : Hcx G A s) (hW : Hw G A τ H) (hS : va_S A s.heap H locs) (hd : eX0_together τ a0 a1 a2 a3 = some out_) (hsz : ls.size = nL) (hrm : (rest.map fun v => v.category).sum ≤ 8) (hR : 9 ≤ R.frames ∧ 176 ≤ R.locals) (hcs : (cells + 1) ≤ R.cells ∧ (slots + 6) ≤ R.slots) (hlk : Cond.methodLink own index yX0_together ∈ lw_all) (hdg : decode cc pc = .ok (.invokestatic index, 3)) (kk : ∀ (u_ : HP) (H1 : Heap) (locs1 : List Loc), u_.1 = out_.2 → Hw G A u_ H1 → va_S A s.heap H1 locs1 → W p l e R s m args below meth c H1 locs1 (cells + 1) (slots + 6) Q (F0 m (pc + 3) ls (.int out_.1 :: rest))) : W p l e R s m args below meth c H locs cells slots Q (F0 m pc ls (.ref a3 :: .int a2 :: .int a1 :: .ref a0 :: rest)) := by
  refine vx_calli (vx_runSX (As := [.ref a0, .int a1, .int a2, .ref a3]) (rest := rest) ⟨hx, hb, hml, hown, hts⟩ (wX0_together l hfl hd) (vx_cwSW 4 hts (lw_SW hlk q1444 q65 q1445) rfl rfl rfl (by decide +kernel) hR) (hr_preS hC hW hS) rfl rfl hsz rfl (lv_room hrm) hdg hcs) hS (fun _ _ h => h) (fun _ h => h) (fun _ _ h => h) (fun E ce q9 u t H1 locs1 ht hvm hp hB hz hk hS1 hce hvn hfc => by cases hp) (fun r u t H1 locs1 ht hvm hp hB hz hk hS1 => ?_)
  have hp : (r, u.1) = out_ := hp
  subst hp
  have hW1 : Hw G A u t.heap := hB
  rw [ht] at hW1
  exact kk u H1 locs1 rfl hW1 hS1
noncomputable def eX0_shop (τ : HP) (a0 : Nat) (a1 : Int32) (a2 : Int32) (a3 : Int32) (a4 : Nat) : Option (Int32 × HH) :=
  wt_ck (hcl τ a0 = some 0) <| wt_bd (eX1_shop τ a0 a1 a2 a3) fun w2 => wt_rs w2 (fun o4 => wt_bd (haL o4.2 a4 4) fun z5 => wt_ck (vp_in (0 : Int32) z5.1) <| wt_lt (hst o4.2 a4 (.inl (4, z5.1, .inr (.inl (vp_updL z5.2 (0 : Int32).toNatClampNeg (Int32.toInt64 o4.1)))))) fun τ8 => some ((0 : Int32), τ8.1)) (fun x_ => if x_.1 = 100 then (some ((1 : Int32), x_.2.2.1)) else (none))
set_option maxHeartbeats 4000000 in
theorem wX0_shop (l : Launch) (hfl : l.stackTraces = false) {G : HG} {A : Nat → Prop} {τ : HP} {a0 : Nat} {a1 : Int32} {a2 : Int32} {a3 : Int32} {a4 : Nat} {out_ : Int32 × HH} (hd : eX0_shop τ a0 a1 a2 a3 a4 = some out_) : vx_Met l yX0_shop (wsW_ yX0_shop cX0_shop 6 (some .int) [(0, 12, 15, 13)]) ({ frames := 8, cells := 3, slots := 41, locals := 186 }) (hPc G A τ [.ref a0, .int a1, .int a2, .int a3, .ref a4]) (hXi G A (fun r u => (r, u.1) = out_)) (hXX G A (Sum.inl out_ : (Int32 × HH) ⊕ (Nat × Nat × HP))) 3 41 A := by
  refine vx_ofWH (hh := [(0, 12, 15, 13)]) (cc := cX0_shop) (maxL := 6) (ret := (some .int)) (by decide) rfl ?_
  intro p_ e_ s_ m_ args_ below_ meth_ c_ s₁_ B hml hv
  obtain ⟨rfl, hW, hC⟩ := hv
  have hx := B.exec
  have hb := B.bytes
  have hr := B.returns
  have hts := atoms_spec (ws := (wsW_ yX0_shop cX0_shop 6 (some .int) [(0, 12, 15, 13)])) B.pre
  have hts : ∀ w ∈ lw_all, w.before _ s_ = true := fun w h => hts w (List.mem_cons_of_mem _ h)
  have hown : s_.vm.findClass RX0 = some m_.cls := findClass_of_methodNamed B.named
  have htab : c_.exceptionTable.toList = tableOf [(0, 12, 15, 13)] := vx_table (x := yX0_shop) B (hts _ q1452)
  have hlocks := B.notSynchronized
  have hK := hC.1
  have hT := hC.2.1
  have hL := hC.2.2.1
  have hZ := hC.2.2.2.2.1
  have hA := hC.2.2.2.2.2
  have hS : va_S A s_.heap s_.heap [] := va_S.rf
  have hl := lv_entry ([.ref a0, .int a1, .int a2, .int a3, .ref a4]) (n := 6) (Nat.le_of_ble_eq_true rfl)
  rw [lg_entry_eq]
  generalize (lg_sl ([.ref a0, .int a1, .int a2, .int a3, .ref a4]) ++ List.replicate (6 - (lg_sl ([.ref a0, .int a1, .int a2, .int a3, .ref a4])).length) Slot.unset).toArray = ls at hl ⊢
  have hl : lv_has ls 6 [(0, .ref a0), (1, .int a1), (2, .int a2), (3, .int a3), (4, .ref a4)] := hl
  unfold eX0_shop at hd
  refine lv_aload (pc := 0) hx hb dX0_shop_0 (lv_at hl 4 rfl) ?_
  refine lv_iconst (pc := 2) (v := 0) hx hb dX0_shop_2 (by decide) ?_
  refine lv_aload_n (pc := 3) hx hb dX0_shop_3 rfl (lv_at hl 0 rfl) ?_
  refine lv_iload_n (pc := 4) hx hb dX0_shop_4 rfl (lv_at hl 1 rfl) ?_
  refine lv_iload_n (pc := 5) hx hb dX0_shop_5 rfl (lv_at hl 2 rfl) ?_
  refine lv_iload_n (pc := 6) hx hb dX0_shop_6 rfl (lv_at hl 3 rfl) ?_
  obtain ⟨h1, hd⟩ := wt_ck_o hd
  obtain ⟨w2, hc3, hd⟩ := wt_bd_o hd
  refine kX1_shop (pc := 7) hfl hx hb hml hown hts hC hW hS h1 hc3 hl.1 (Nat.le_of_ble_eq_true rfl) ⟨Nat.le_of_ble_eq_true rfl, Nat.le_of_ble_eq_true rfl⟩ ⟨(Nat.le_of_ble_eq_true rfl), (Nat.le_of_ble_eq_true rfl)⟩ q1453 dX0_shop_7 (fun x_ hx_ E_ ce_ q9_ H locs hXB hS hce hvn hfc => ?_) (fun o4 ho_ H locs hW hS => ?_)
  · have hd := wt_rs_r hx_ hd
    by_cases c9 : x_.1 = 100
    · have hd := wt_it hd c9
      refine hx_catchJ (name := "java/lang/IllegalArgumentException") 100 hown [] (⟨0, 12, 15, 13⟩ : ExceptionTableEntry) [] (htab.trans rfl) c9 (by decide) rfl (fun y hy => by cases hy) (by decide) (by decide) (hts _ q670) (va_Nw.use rfl (hC.2.1.1 _ (hw_of q187 rfl))) hXB hce hvn hfc (fun hW => ?_)
      refine lv_astore (pc := 15) (lv' := [(5, .ref q9_), (0, .ref a0), (1, .int a1), (2, .int a2), (3, .int a3), (4, .ref a4)]) hx hb dX0_shop_15 hl (by decide) rfl (fun ls hl => ?_)
      refine lv_iconst (pc := 17) (v := 1) hx hb dX0_shop_17 (by decide) ?_
      refine vx_ret ?_
      exact hx_iret (τ := (x_.2.2.1, H.size)) hx hb hr rfl hlocks (Option.some.inj hd) hW hS dX0_shop_18 (Nat.le_of_ble_eq_true rfl) (Nat.le_of_ble_eq_true rfl)
    have hd := wt_if hd c9
    exact absurd hd (by intro h; cases h)
  · have hd := wt_rs_l ho_ hd
    refine lv_i2l (pc := 10) hx hb dX0_shop_10 rfl ?_
    obtain ⟨z5, h6, hd⟩ := wt_bd_o hd
    obtain ⟨h7, hd⟩ := wt_ck_o hd
    obtain ⟨τ8, eτ8, hd⟩ := wt_lt_o hd
    refine hr_last (pc := 11) hx hb hK hW hS h6 h7 eτ8 dX0_shop_11 (fun H locs hW hS => ?_)
    refine lv_goto (pc := 12) (tgt := 19) hx hb dX0_shop_12 (by decide) ?_
    refine lv_iconst (pc := 19) (v := 0) hx hb dX0_shop_19 (by decide) ?_
    refine vx_ret ?_
    exact hx_iret (τ := τ8) hx hb hr rfl hlocks (Option.some.inj hd) hW hS dX0_shop_20 (Nat.le_of_ble_eq_true rfl) (Nat.le_of_ble_eq_true rfl)
theorem kX0_shop {p : Program} {l : Launch} {e : Env} {R : Room} {s : State} {m : MethodId} {args : Array Value} {below : List Frame} {meth : Method} {c : Code} {H : Heap} {locs : List Loc} {cells slots : Nat} {Q : State → Prop} {cc : ByteArray} {pc : Nat} {ls : Array Slot} {rest : List Value} {nL : Nat} {own : String} {index : Nat} {G : HG} {A : Nat → Prop} {τ : HP} {a0 : Nat} {a1 : Int32} {a2 : Int32} {a3 : Int32} {a4 : Nat} {out_ : Int32 × HH} (hfl : l.stackTraces = false) (hx : p.tables.exec = Jvm.exec) (hb : c.code = cc) (hml : c.maxLocals = nL) (hown : s.vm.findClass own = some m.cls) (hts : ∀ w ∈ lw_all, w.before args s = true) (hC : Hcx G A s) (hW : Hw G A τ H) (hS : va_S A s.heap H locs) (hd : eX0_shop τ a0 a1 a2 a3 a4 = some out_) (hsz : ls.size = nL) (hrm : (rest.map fun v => v.category).sum ≤ 8) (hR : 9 ≤ R.frames ∧ 211 ≤ R.locals) (hcs : (cells + 3) ≤ R.cells ∧ (slots + 41) ≤ R.slots) (hlk : Cond.methodLink own index yX0_shop ∈ lw_all) (hdg : decode cc pc = .ok (.invokestatic index, 3)) (kk : ∀ (u_ : HP) (H1 : Heap) (locs1 : List Loc), u_.1 = out_.2 → Hw G A u_ H1 → va_S A s.heap H1 locs1 → W p l e R s m args below meth c H1 locs1 (cells + 3) (slots + 41) Q (F0 m (pc + 3) ls (.int out_.1 :: rest))) : W p l e R s m args below meth c H locs cells slots Q (F0 m pc ls (.ref a4 :: .int a3 :: .int a2 :: .int a1 :: .ref a0 :: rest)) := by
  refine vx_calli (vx_runSX (As := [.ref a0, .int a1, .int a2, .int a3, .ref a4]) (rest := rest) ⟨hx, hb, hml, hown, hts⟩ (wX0_shop l hfl hd) (vx_cwSW 5 hts (lw_SW hlk q1451 q65 q1452) rfl rfl rfl (by decide +kernel) hR) (hr_preS hC hW hS) rfl rfl hsz rfl (lv_room hrm) hdg hcs) hS (fun _ _ h => h) (fun _ h => h) (fun _ _ h => h) (fun E ce q9 u t H1 locs1 ht hvm hp hB hz hk hS1 hce hvn hfc => by cases hp) (fun r u t H1 locs1 ht hvm hp hB hz hk hS1 => ?_)
  have hp : (r, u.1) = out_ := hp
  subst hp
  have hW1 : Hw G A u t.heap := hB
  rw [ht] at hW1
  exact kk u H1 locs1 rfl hW1 hS1
noncomputable def eX0_rare (τ : HP) (a0 : Nat) (a1 : Int32) (a2 : Int32) (a3 : Nat) : Option (Int32 × HH) :=
  wt_ck (hcl τ a0 = some 0) <| wt_bd (eX1_rare τ a0 a1 a2) fun w2 => wt_rs w2 (fun o4 => wt_bd (haL τ a3 4) fun z5 => wt_ck (vp_in (0 : Int32) z5.1) <| wt_lt (hst τ a3 (.inl (4, z5.1, .inr (.inl (vp_updL z5.2 (0 : Int32).toNatClampNeg (Int32.toInt64 o4)))))) fun τ8 => some ((0 : Int32), τ8.1)) (fun x_ => if x_.1 = 100 then (some ((1 : Int32), x_.2.2.1)) else (none))
set_option maxHeartbeats 4000000 in
theorem wX0_rare (l : Launch) (hfl : l.stackTraces = false) {G : HG} {A : Nat → Prop} {τ : HP} {a0 : Nat} {a1 : Int32} {a2 : Int32} {a3 : Nat} {out_ : Int32 × HH} (hd : eX0_rare τ a0 a1 a2 a3 = some out_) : vx_Met l yX0_rare (wsW_ yX0_rare cX0_rare 5 (some .int) [(0, 10, 13, 13)]) ({ frames := 8, cells := 1, slots := 6, locals := 161 }) (hPc G A τ [.ref a0, .int a1, .int a2, .ref a3]) (hXi G A (fun r u => (r, u.1) = out_)) (hXX G A (Sum.inl out_ : (Int32 × HH) ⊕ (Nat × Nat × HP))) 1 6 A := by
  refine vx_ofWH (hh := [(0, 10, 13, 13)]) (cc := cX0_rare) (maxL := 5) (ret := (some .int)) (by decide) rfl ?_
  intro p_ e_ s_ m_ args_ below_ meth_ c_ s₁_ B hml hv
  obtain ⟨rfl, hW, hC⟩ := hv
  have hx := B.exec
  have hb := B.bytes
  have hr := B.returns
  have hts := atoms_spec (ws := (wsW_ yX0_rare cX0_rare 5 (some .int) [(0, 10, 13, 13)])) B.pre
  have hts : ∀ w ∈ lw_all, w.before _ s_ = true := fun w h => hts w (List.mem_cons_of_mem _ h)
  have hown : s_.vm.findClass RX0 = some m_.cls := findClass_of_methodNamed B.named
  have htab : c_.exceptionTable.toList = tableOf [(0, 10, 13, 13)] := vx_table (x := yX0_rare) B (hts _ q1478)
  have hlocks := B.notSynchronized
  have hK := hC.1
  have hT := hC.2.1
  have hL := hC.2.2.1
  have hZ := hC.2.2.2.2.1
  have hA := hC.2.2.2.2.2
  have hS : va_S A s_.heap s_.heap [] := va_S.rf
  have hl := lv_entry ([.ref a0, .int a1, .int a2, .ref a3]) (n := 5) (Nat.le_of_ble_eq_true rfl)
  rw [lg_entry_eq]
  generalize (lg_sl ([.ref a0, .int a1, .int a2, .ref a3]) ++ List.replicate (5 - (lg_sl ([.ref a0, .int a1, .int a2, .ref a3])).length) Slot.unset).toArray = ls at hl ⊢
  have hl : lv_has ls 5 [(0, .ref a0), (1, .int a1), (2, .int a2), (3, .ref a3)] := hl
  unfold eX0_rare at hd
  refine lv_aload_n (pc := 0) hx hb dX0_rare_0 rfl (lv_at hl 3 rfl) ?_
  refine lv_iconst (pc := 1) (v := 0) hx hb dX0_rare_1 (by decide) ?_
  refine lv_aload_n (pc := 2) hx hb dX0_rare_2 rfl (lv_at hl 0 rfl) ?_
  refine lv_iload_n (pc := 3) hx hb dX0_rare_3 rfl (lv_at hl 1 rfl) ?_
  refine lv_iload_n (pc := 4) hx hb dX0_rare_4 rfl (lv_at hl 2 rfl) ?_
  obtain ⟨h1, hd⟩ := wt_ck_o hd
  obtain ⟨w2, hc3, hd⟩ := wt_bd_o hd
  refine kX1_rare (pc := 5) hfl hx hb hml hown hts hC hW hS h1 hc3 hl.1 (Nat.le_of_ble_eq_true rfl) ⟨Nat.le_of_ble_eq_true rfl, Nat.le_of_ble_eq_true rfl⟩ ⟨(Nat.le_of_ble_eq_true rfl), (Nat.le_of_ble_eq_true rfl)⟩ q1479 dX0_rare_5 (fun x_ hx_ E_ ce_ q9_ H locs hXB hS hce hvn hfc => ?_) (fun o4 ho_ H locs hW hS => ?_)
  · have hd := wt_rs_r hx_ hd
    by_cases c9 : x_.1 = 100
    · have hd := wt_it hd c9
      refine hx_catchJ (name := "java/lang/IllegalArgumentException") 100 hown [] (⟨0, 10, 13, 13⟩ : ExceptionTableEntry) [] (htab.trans rfl) c9 (by decide) rfl (fun y hy => by cases hy) (by decide) (by decide) (hts _ q670) (va_Nw.use rfl (hC.2.1.1 _ (hw_of q187 rfl))) hXB hce hvn hfc (fun hW => ?_)
      refine lv_astore (pc := 13) (lv' := [(4, .ref q9_), (0, .ref a0), (1, .int a1), (2, .int a2), (3, .ref a3)]) hx hb dX0_rare_13 hl (by decide) rfl (fun ls hl => ?_)
      refine lv_iconst (pc := 15) (v := 1) hx hb dX0_rare_15 (by decide) ?_
      refine vx_ret ?_
      exact hx_iret (τ := (x_.2.2.1, H.size)) hx hb hr rfl hlocks (Option.some.inj hd) hW hS dX0_rare_16 (Nat.le_of_ble_eq_true rfl) (Nat.le_of_ble_eq_true rfl)
    have hd := wt_if hd c9
    exact absurd hd (by intro h; cases h)
  · have hd := wt_rs_l ho_ hd
    refine lv_i2l (pc := 8) hx hb dX0_rare_8 rfl ?_
    obtain ⟨z5, h6, hd⟩ := wt_bd_o hd
    obtain ⟨h7, hd⟩ := wt_ck_o hd
    obtain ⟨τ8, eτ8, hd⟩ := wt_lt_o hd
    refine hr_last (pc := 9) hx hb hK hW hS h6 h7 eτ8 dX0_rare_9 (fun H locs hW hS => ?_)
    refine lv_goto (pc := 10) (tgt := 17) hx hb dX0_rare_10 (by decide) ?_
    refine lv_iconst (pc := 17) (v := 0) hx hb dX0_rare_17 (by decide) ?_
    refine vx_ret ?_
    exact hx_iret (τ := τ8) hx hb hr rfl hlocks (Option.some.inj hd) hW hS dX0_rare_18 (Nat.le_of_ble_eq_true rfl) (Nat.le_of_ble_eq_true rfl)
theorem kX0_rare {p : Program} {l : Launch} {e : Env} {R : Room} {s : State} {m : MethodId} {args : Array Value} {below : List Frame} {meth : Method} {c : Code} {H : Heap} {locs : List Loc} {cells slots : Nat} {Q : State → Prop} {cc : ByteArray} {pc : Nat} {ls : Array Slot} {rest : List Value} {nL : Nat} {own : String} {index : Nat} {G : HG} {A : Nat → Prop} {τ : HP} {a0 : Nat} {a1 : Int32} {a2 : Int32} {a3 : Nat} {out_ : Int32 × HH} (hfl : l.stackTraces = false) (hx : p.tables.exec = Jvm.exec) (hb : c.code = cc) (hml : c.maxLocals = nL) (hown : s.vm.findClass own = some m.cls) (hts : ∀ w ∈ lw_all, w.before args s = true) (hC : Hcx G A s) (hW : Hw G A τ H) (hS : va_S A s.heap H locs) (hd : eX0_rare τ a0 a1 a2 a3 = some out_) (hsz : ls.size = nL) (hrm : (rest.map fun v => v.category).sum ≤ 8) (hR : 9 ≤ R.frames ∧ 185 ≤ R.locals) (hcs : (cells + 1) ≤ R.cells ∧ (slots + 6) ≤ R.slots) (hlk : Cond.methodLink own index yX0_rare ∈ lw_all) (hdg : decode cc pc = .ok (.invokestatic index, 3)) (kk : ∀ (u_ : HP) (H1 : Heap) (locs1 : List Loc), u_.1 = out_.2 → Hw G A u_ H1 → va_S A s.heap H1 locs1 → W p l e R s m args below meth c H1 locs1 (cells + 1) (slots + 6) Q (F0 m (pc + 3) ls (.int out_.1 :: rest))) : W p l e R s m args below meth c H locs cells slots Q (F0 m pc ls (.ref a3 :: .int a2 :: .int a1 :: .ref a0 :: rest)) := by
  refine vx_calli (vx_runSX (As := [.ref a0, .int a1, .int a2, .ref a3]) (rest := rest) ⟨hx, hb, hml, hown, hts⟩ (wX0_rare l hfl hd) (vx_cwSW 4 hts (lw_SW hlk q1477 q65 q1478) rfl rfl rfl (by decide +kernel) hR) (hr_preS hC hW hS) rfl rfl hsz rfl (lv_room hrm) hdg hcs) hS (fun _ _ h => h) (fun _ h => h) (fun _ _ h => h) (fun E ce q9 u t H1 locs1 ht hvm hp hB hz hk hS1 hce hvn hfc => by cases hp) (fun r u t H1 locs1 ht hvm hp hB hz hk hS1 => ?_)
  have hp : (r, u.1) = out_ := hp
  subst hp
  have hW1 : Hw G A u t.heap := hB
  rw [ht] at hW1
  exact kk u H1 locs1 rfl hW1 hS1
noncomputable def eX0_next (τ : HP) (a0 : Nat) (a1 : Int32) (a2 : Int32) (a3 : Int32) (a4 : Nat) : Option (Int32 × HH) :=
  wt_ck (hcl τ a0 = some 0) <| wt_bd (eX1_next τ a0 a1 a2 a3) fun w2 => wt_rs w2 (fun o4 => wt_bd (haL o4.2 a4 4) fun z5 => wt_ck (vp_in (0 : Int32) z5.1) <| wt_lt (hst o4.2 a4 (.inl (4, z5.1, .inr (.inl (vp_updL z5.2 (0 : Int32).toNatClampNeg (Int32.toInt64 o4.1)))))) fun τ8 => some ((0 : Int32), τ8.1)) (fun x_ => if x_.1 = 101 then (some ((1 : Int32), x_.2.2.1)) else (if x_.1 = 100 then (some ((2 : Int32), x_.2.2.1)) else (none)))
set_option maxHeartbeats 4000000 in
theorem wX0_next (l : Launch) (hfl : l.stackTraces = false) {G : HG} {A : Nat → Prop} {τ : HP} {a0 : Nat} {a1 : Int32} {a2 : Int32} {a3 : Int32} {a4 : Nat} {out_ : Int32 × HH} (hd : eX0_next τ a0 a1 a2 a3 a4 = some out_) : vx_Met l yX0_next (wsW_ yX0_next cX0_next 6 (some .int) [(0, 12, 15, 32), (0, 12, 19, 13)]) ({ frames := 8, cells := 9, slots := 246, locals := 164 }) (hPc G A τ [.ref a0, .int a1, .int a2, .int a3, .ref a4]) (hXi G A (fun r u => (r, u.1) = out_)) (hXX G A (Sum.inl out_ : (Int32 × HH) ⊕ (Nat × Nat × HP))) 9 246 A := by
  refine vx_ofWH (hh := [(0, 12, 15, 32), (0, 12, 19, 13)]) (cc := cX0_next) (maxL := 6) (ret := (some .int)) (by decide) rfl ?_
  intro p_ e_ s_ m_ args_ below_ meth_ c_ s₁_ B hml hv
  obtain ⟨rfl, hW, hC⟩ := hv
  have hx := B.exec
  have hb := B.bytes
  have hr := B.returns
  have hts := atoms_spec (ws := (wsW_ yX0_next cX0_next 6 (some .int) [(0, 12, 15, 32), (0, 12, 19, 13)])) B.pre
  have hts : ∀ w ∈ lw_all, w.before _ s_ = true := fun w h => hts w (List.mem_cons_of_mem _ h)
  have hown : s_.vm.findClass RX0 = some m_.cls := findClass_of_methodNamed B.named
  have htab : c_.exceptionTable.toList = tableOf [(0, 12, 15, 32), (0, 12, 19, 13)] := vx_table (x := yX0_next) B (hts _ q1488)
  have hlocks := B.notSynchronized
  have hK := hC.1
  have hT := hC.2.1
  have hL := hC.2.2.1
  have hZ := hC.2.2.2.2.1
  have hA := hC.2.2.2.2.2
  have hS : va_S A s_.heap s_.heap [] := va_S.rf
  have hl := lv_entry ([.ref a0, .int a1, .int a2, .int a3, .ref a4]) (n := 6) (Nat.le_of_ble_eq_true rfl)
  rw [lg_entry_eq]
  generalize (lg_sl ([.ref a0, .int a1, .int a2, .int a3, .ref a4]) ++ List.replicate (6 - (lg_sl ([.ref a0, .int a1, .int a2, .int a3, .ref a4])).length) Slot.unset).toArray = ls at hl ⊢
  have hl : lv_has ls 6 [(0, .ref a0), (1, .int a1), (2, .int a2), (3, .int a3), (4, .ref a4)] := hl
  unfold eX0_next at hd
  refine lv_aload (pc := 0) hx hb dX0_next_0 (lv_at hl 4 rfl) ?_
  refine lv_iconst (pc := 2) (v := 0) hx hb dX0_next_2 (by decide) ?_
  refine lv_aload_n (pc := 3) hx hb dX0_next_3 rfl (lv_at hl 0 rfl) ?_
  refine lv_iload_n (pc := 4) hx hb dX0_next_4 rfl (lv_at hl 1 rfl) ?_
  refine lv_iload_n (pc := 5) hx hb dX0_next_5 rfl (lv_at hl 2 rfl) ?_
  refine lv_iload_n (pc := 6) hx hb dX0_next_6 rfl (lv_at hl 3 rfl) ?_
  obtain ⟨h1, hd⟩ := wt_ck_o hd
  obtain ⟨w2, hc3, hd⟩ := wt_bd_o hd
  refine kX1_next (pc := 7) hfl hx hb hml hown hts hC hW hS h1 hc3 hl.1 (Nat.le_of_ble_eq_true rfl) ⟨Nat.le_of_ble_eq_true rfl, Nat.le_of_ble_eq_true rfl⟩ ⟨(Nat.le_of_ble_eq_true rfl), (Nat.le_of_ble_eq_true rfl)⟩ q1489 dX0_next_7 (fun x_ hx_ E_ ce_ q9_ H locs hXB hS hce hvn hfc => ?_) (fun o4 ho_ H locs hW hS => ?_)
  · have hd := wt_rs_r hx_ hd
    by_cases c9 : x_.1 = 101
    · have hd := wt_it hd c9
      refine hx_catchJ (name := "java/util/NoSuchElementException") 101 hown [] (⟨0, 12, 15, 32⟩ : ExceptionTableEntry) [(⟨0, 12, 19, 13⟩ : ExceptionTableEntry)] (htab.trans rfl) c9 (by decide) rfl (fun y hy => by cases hy) (by decide) (by decide) (hts _ q998) (va_Nw.use rfl (hC.2.1.1 _ (hw_of q1009 rfl))) hXB hce hvn hfc (fun hW => ?_)
      refine lv_astore (pc := 15) (lv' := [(5, .ref q9_), (0, .ref a0), (1, .int a1), (2, .int a2), (3, .int a3), (4, .ref a4)]) hx hb dX0_next_15 hl (by decide) rfl (fun ls hl => ?_)
      refine lv_iconst (pc := 17) (v := 1) hx hb dX0_next_17 (by decide) ?_
      refine vx_ret ?_
      exact hx_iret (τ := (x_.2.2.1, H.size)) hx hb hr rfl hlocks (Option.some.inj hd) hW hS dX0_next_18 (Nat.le_of_ble_eq_true rfl) (Nat.le_of_ble_eq_true rfl)
    have hd := wt_if hd c9
    by_cases c10 : x_.1 = 100
    · have hd := wt_it hd c10
      refine hx_catchJ (name := "java/lang/IllegalArgumentException") 100 hown [(⟨0, 12, 15, 32⟩ : ExceptionTableEntry)] (⟨0, 12, 19, 13⟩ : ExceptionTableEntry) [] (htab.trans rfl) c10 (by decide) rfl (fun y hy => by rcases List.mem_singleton.mp hy with rfl; exact Or.inr ⟨by decide, _, hts _ q998, hC.2.2.2.1.2.2.2.1⟩) (by decide) (by decide) (hts _ q670) (va_Nw.use rfl (hC.2.1.1 _ (hw_of q187 rfl))) hXB hce hvn hfc (fun hW => ?_)
      refine lv_astore (pc := 19) (lv' := [(5, .ref q9_), (0, .ref a0), (1, .int a1), (2, .int a2), (3, .int a3), (4, .ref a4)]) hx hb dX0_next_19 hl (by decide) rfl (fun ls hl => ?_)
      refine lv_iconst (pc := 21) (v := 2) hx hb dX0_next_21 (by decide) ?_
      refine vx_ret ?_
      exact hx_iret (τ := (x_.2.2.1, H.size)) hx hb hr rfl hlocks (Option.some.inj hd) hW hS dX0_next_22 (Nat.le_of_ble_eq_true rfl) (Nat.le_of_ble_eq_true rfl)
    have hd := wt_if hd c10
    exact absurd hd (by intro h; cases h)
  · have hd := wt_rs_l ho_ hd
    refine lv_i2l (pc := 10) hx hb dX0_next_10 rfl ?_
    obtain ⟨z5, h6, hd⟩ := wt_bd_o hd
    obtain ⟨h7, hd⟩ := wt_ck_o hd
    obtain ⟨τ8, eτ8, hd⟩ := wt_lt_o hd
    refine hr_last (pc := 11) hx hb hK hW hS h6 h7 eτ8 dX0_next_11 (fun H locs hW hS => ?_)
    refine lv_goto (pc := 12) (tgt := 23) hx hb dX0_next_12 (by decide) ?_
    refine lv_iconst (pc := 23) (v := 0) hx hb dX0_next_23 (by decide) ?_
    refine vx_ret ?_
    exact hx_iret (τ := τ8) hx hb hr rfl hlocks (Option.some.inj hd) hW hS dX0_next_24 (Nat.le_of_ble_eq_true rfl) (Nat.le_of_ble_eq_true rfl)
theorem kX0_next {p : Program} {l : Launch} {e : Env} {R : Room} {s : State} {m : MethodId} {args : Array Value} {below : List Frame} {meth : Method} {c : Code} {H : Heap} {locs : List Loc} {cells slots : Nat} {Q : State → Prop} {cc : ByteArray} {pc : Nat} {ls : Array Slot} {rest : List Value} {nL : Nat} {own : String} {index : Nat} {G : HG} {A : Nat → Prop} {τ : HP} {a0 : Nat} {a1 : Int32} {a2 : Int32} {a3 : Int32} {a4 : Nat} {out_ : Int32 × HH} (hfl : l.stackTraces = false) (hx : p.tables.exec = Jvm.exec) (hb : c.code = cc) (hml : c.maxLocals = nL) (hown : s.vm.findClass own = some m.cls) (hts : ∀ w ∈ lw_all, w.before args s = true) (hC : Hcx G A s) (hW : Hw G A τ H) (hS : va_S A s.heap H locs) (hd : eX0_next τ a0 a1 a2 a3 a4 = some out_) (hsz : ls.size = nL) (hrm : (rest.map fun v => v.category).sum ≤ 8) (hR : 9 ≤ R.frames ∧ 189 ≤ R.locals) (hcs : (cells + 9) ≤ R.cells ∧ (slots + 246) ≤ R.slots) (hlk : Cond.methodLink own index yX0_next ∈ lw_all) (hdg : decode cc pc = .ok (.invokestatic index, 3)) (kk : ∀ (u_ : HP) (H1 : Heap) (locs1 : List Loc), u_.1 = out_.2 → Hw G A u_ H1 → va_S A s.heap H1 locs1 → W p l e R s m args below meth c H1 locs1 (cells + 9) (slots + 246) Q (F0 m (pc + 3) ls (.int out_.1 :: rest))) : W p l e R s m args below meth c H locs cells slots Q (F0 m pc ls (.ref a4 :: .int a3 :: .int a2 :: .int a1 :: .ref a0 :: rest)) := by
  refine vx_calli (vx_runSX (As := [.ref a0, .int a1, .int a2, .int a3, .ref a4]) (rest := rest) ⟨hx, hb, hml, hown, hts⟩ (wX0_next l hfl hd) (vx_cwSW 5 hts (lw_SW hlk q1487 q65 q1488) rfl rfl rfl (by decide +kernel) hR) (hr_preS hC hW hS) rfl rfl hsz rfl (lv_room hrm) hdg hcs) hS (fun _ _ h => h) (fun _ h => h) (fun _ _ h => h) (fun E ce q9 u t H1 locs1 ht hvm hp hB hz hk hS1 hce hvn hfc => by cases hp) (fun r u t H1 locs1 ht hvm hp hB hz hk hS1 => ?_)
  have hp : (r, u.1) = out_ := hp
  subst hp
  have hW1 : Hw G A u t.heap := hB
  rw [ht] at hW1
  exact kk u H1 locs1 rfl hW1 hS1
noncomputable def eX0_signs (τ : HP) (a0 : Nat) (a1 : Int32) (a2 : Int32) (a3 : Nat) : Option (Int32 × HH) :=
  wt_ck (hcl τ a0 = some 0) <| wt_bd (eX1_signs τ a0 a1 a2) fun w2 => wt_rs w2 (fun o4 => wt_bd (haL o4.2 a3 4) fun z5 => wt_ck (vp_in (0 : Int32) z5.1) <| wt_lt (hst o4.2 a3 (.inl (4, z5.1, .inr (.inl (vp_updL z5.2 (0 : Int32).toNatClampNeg (Int32.toInt64 o4.1)))))) fun τ8 => some ((0 : Int32), τ8.1)) (fun x_ => if x_.1 = 101 then (some ((1 : Int32), x_.2.2.1)) else (if x_.1 = 102 then (some ((2 : Int32), x_.2.2.1)) else (none)))
set_option maxHeartbeats 4000000 in
theorem wX0_signs (l : Launch) (hfl : l.stackTraces = false) {G : HG} {A : Nat → Prop} {τ : HP} {a0 : Nat} {a1 : Int32} {a2 : Int32} {a3 : Nat} {out_ : Int32 × HH} (hd : eX0_signs τ a0 a1 a2 a3 = some out_) : vx_Met l yX0_signs (wsW_ yX0_signs cX0_signs 5 (some .int) [(0, 10, 13, 32), (0, 10, 17, 47)]) ({ frames := 8, cells := 5, slots := 126, locals := 157 }) (hPc G A τ [.ref a0, .int a1, .int a2, .ref a3]) (hXi G A (fun r u => (r, u.1) = out_)) (hXX G A (Sum.inl out_ : (Int32 × HH) ⊕ (Nat × Nat × HP))) 5 126 A := by
  refine vx_ofWH (hh := [(0, 10, 13, 32), (0, 10, 17, 47)]) (cc := cX0_signs) (maxL := 5) (ret := (some .int)) (by decide) rfl ?_
  intro p_ e_ s_ m_ args_ below_ meth_ c_ s₁_ B hml hv
  obtain ⟨rfl, hW, hC⟩ := hv
  have hx := B.exec
  have hb := B.bytes
  have hr := B.returns
  have hts := atoms_spec (ws := (wsW_ yX0_signs cX0_signs 5 (some .int) [(0, 10, 13, 32), (0, 10, 17, 47)])) B.pre
  have hts : ∀ w ∈ lw_all, w.before _ s_ = true := fun w h => hts w (List.mem_cons_of_mem _ h)
  have hown : s_.vm.findClass RX0 = some m_.cls := findClass_of_methodNamed B.named
  have htab : c_.exceptionTable.toList = tableOf [(0, 10, 13, 32), (0, 10, 17, 47)] := vx_table (x := yX0_signs) B (hts _ q1502)
  have hlocks := B.notSynchronized
  have hK := hC.1
  have hT := hC.2.1
  have hL := hC.2.2.1
  have hZ := hC.2.2.2.2.1
  have hA := hC.2.2.2.2.2
  have hS : va_S A s_.heap s_.heap [] := va_S.rf
  have hl := lv_entry ([.ref a0, .int a1, .int a2, .ref a3]) (n := 5) (Nat.le_of_ble_eq_true rfl)
  rw [lg_entry_eq]
  generalize (lg_sl ([.ref a0, .int a1, .int a2, .ref a3]) ++ List.replicate (5 - (lg_sl ([.ref a0, .int a1, .int a2, .ref a3])).length) Slot.unset).toArray = ls at hl ⊢
  have hl : lv_has ls 5 [(0, .ref a0), (1, .int a1), (2, .int a2), (3, .ref a3)] := hl
  unfold eX0_signs at hd
  refine lv_aload_n (pc := 0) hx hb dX0_signs_0 rfl (lv_at hl 3 rfl) ?_
  refine lv_iconst (pc := 1) (v := 0) hx hb dX0_signs_1 (by decide) ?_
  refine lv_aload_n (pc := 2) hx hb dX0_signs_2 rfl (lv_at hl 0 rfl) ?_
  refine lv_iload_n (pc := 3) hx hb dX0_signs_3 rfl (lv_at hl 1 rfl) ?_
  refine lv_iload_n (pc := 4) hx hb dX0_signs_4 rfl (lv_at hl 2 rfl) ?_
  obtain ⟨h1, hd⟩ := wt_ck_o hd
  obtain ⟨w2, hc3, hd⟩ := wt_bd_o hd
  refine kX1_signs (pc := 5) hfl hx hb hml hown hts hC hW hS h1 hc3 hl.1 (Nat.le_of_ble_eq_true rfl) ⟨Nat.le_of_ble_eq_true rfl, Nat.le_of_ble_eq_true rfl⟩ ⟨(Nat.le_of_ble_eq_true rfl), (Nat.le_of_ble_eq_true rfl)⟩ q1503 dX0_signs_5 (fun x_ hx_ E_ ce_ q9_ H locs hXB hS hce hvn hfc => ?_) (fun o4 ho_ H locs hW hS => ?_)
  · have hd := wt_rs_r hx_ hd
    by_cases c9 : x_.1 = 101
    · have hd := wt_it hd c9
      refine hx_catchJ (name := "java/util/NoSuchElementException") 101 hown [] (⟨0, 10, 13, 32⟩ : ExceptionTableEntry) [(⟨0, 10, 17, 47⟩ : ExceptionTableEntry)] (htab.trans rfl) c9 (by decide) rfl (fun y hy => by cases hy) (by decide) (by decide) (hts _ q998) (va_Nw.use rfl (hC.2.1.1 _ (hw_of q1009 rfl))) hXB hce hvn hfc (fun hW => ?_)
      refine lv_astore (pc := 13) (lv' := [(4, .ref q9_), (0, .ref a0), (1, .int a1), (2, .int a2), (3, .ref a3)]) hx hb dX0_signs_13 hl (by decide) rfl (fun ls hl => ?_)
      refine lv_iconst (pc := 15) (v := 1) hx hb dX0_signs_15 (by decide) ?_
      refine vx_ret ?_
      exact hx_iret (τ := (x_.2.2.1, H.size)) hx hb hr rfl hlocks (Option.some.inj hd) hW hS dX0_signs_16 (Nat.le_of_ble_eq_true rfl) (Nat.le_of_ble_eq_true rfl)
    have hd := wt_if hd c9
    by_cases c10 : x_.1 = 102
    · have hd := wt_it hd c10
      refine hx_catchJ (name := "java/lang/IndexOutOfBoundsException") 102 hown [(⟨0, 10, 13, 32⟩ : ExceptionTableEntry)] (⟨0, 10, 17, 47⟩ : ExceptionTableEntry) [] (htab.trans rfl) c10 (by decide) rfl (fun y hy => by rcases List.mem_singleton.mp hy with rfl; exact Or.inr ⟨by decide, _, hts _ q998, hC.2.2.2.1.2.2.2.2.2⟩) (by decide) (by decide) (hts _ q1192) (va_Nw.use rfl (hC.2.1.1 _ (hw_of q1221 rfl))) hXB hce hvn hfc (fun hW => ?_)
      refine lv_astore (pc := 17) (lv' := [(4, .ref q9_), (0, .ref a0), (1, .int a1), (2, .int a2), (3, .ref a3)]) hx hb dX0_signs_17 hl (by decide) rfl (fun ls hl => ?_)
      refine lv_iconst (pc := 19) (v := 2) hx hb dX0_signs_19 (by decide) ?_
      refine vx_ret ?_
      exact hx_iret (τ := (x_.2.2.1, H.size)) hx hb hr rfl hlocks (Option.some.inj hd) hW hS dX0_signs_20 (Nat.le_of_ble_eq_true rfl) (Nat.le_of_ble_eq_true rfl)
    have hd := wt_if hd c10
    exact absurd hd (by intro h; cases h)
  · have hd := wt_rs_l ho_ hd
    refine lv_i2l (pc := 8) hx hb dX0_signs_8 rfl ?_
    obtain ⟨z5, h6, hd⟩ := wt_bd_o hd
    obtain ⟨h7, hd⟩ := wt_ck_o hd
    obtain ⟨τ8, eτ8, hd⟩ := wt_lt_o hd
    refine hr_last (pc := 9) hx hb hK hW hS h6 h7 eτ8 dX0_signs_9 (fun H locs hW hS => ?_)
    refine lv_goto (pc := 10) (tgt := 21) hx hb dX0_signs_10 (by decide) ?_
    refine lv_iconst (pc := 21) (v := 0) hx hb dX0_signs_21 (by decide) ?_
    refine vx_ret ?_
    exact hx_iret (τ := τ8) hx hb hr rfl hlocks (Option.some.inj hd) hW hS dX0_signs_22 (Nat.le_of_ble_eq_true rfl) (Nat.le_of_ble_eq_true rfl)
theorem kX0_signs {p : Program} {l : Launch} {e : Env} {R : Room} {s : State} {m : MethodId} {args : Array Value} {below : List Frame} {meth : Method} {c : Code} {H : Heap} {locs : List Loc} {cells slots : Nat} {Q : State → Prop} {cc : ByteArray} {pc : Nat} {ls : Array Slot} {rest : List Value} {nL : Nat} {own : String} {index : Nat} {G : HG} {A : Nat → Prop} {τ : HP} {a0 : Nat} {a1 : Int32} {a2 : Int32} {a3 : Nat} {out_ : Int32 × HH} (hfl : l.stackTraces = false) (hx : p.tables.exec = Jvm.exec) (hb : c.code = cc) (hml : c.maxLocals = nL) (hown : s.vm.findClass own = some m.cls) (hts : ∀ w ∈ lw_all, w.before args s = true) (hC : Hcx G A s) (hW : Hw G A τ H) (hS : va_S A s.heap H locs) (hd : eX0_signs τ a0 a1 a2 a3 = some out_) (hsz : ls.size = nL) (hrm : (rest.map fun v => v.category).sum ≤ 8) (hR : 9 ≤ R.frames ∧ 181 ≤ R.locals) (hcs : (cells + 5) ≤ R.cells ∧ (slots + 126) ≤ R.slots) (hlk : Cond.methodLink own index yX0_signs ∈ lw_all) (hdg : decode cc pc = .ok (.invokestatic index, 3)) (kk : ∀ (u_ : HP) (H1 : Heap) (locs1 : List Loc), u_.1 = out_.2 → Hw G A u_ H1 → va_S A s.heap H1 locs1 → W p l e R s m args below meth c H1 locs1 (cells + 5) (slots + 126) Q (F0 m (pc + 3) ls (.int out_.1 :: rest))) : W p l e R s m args below meth c H locs cells slots Q (F0 m pc ls (.ref a3 :: .int a2 :: .int a1 :: .ref a0 :: rest)) := by
  refine vx_calli (vx_runSX (As := [.ref a0, .int a1, .int a2, .ref a3]) (rest := rest) ⟨hx, hb, hml, hown, hts⟩ (wX0_signs l hfl hd) (vx_cwSW 4 hts (lw_SW hlk q1501 q65 q1502) rfl rfl rfl (by decide +kernel) hR) (hr_preS hC hW hS) rfl rfl hsz rfl (lv_room hrm) hdg hcs) hS (fun _ _ h => h) (fun _ h => h) (fun _ _ h => h) (fun E ce q9 u t H1 locs1 ht hvm hp hB hz hk hS1 hce hvn hfc => by cases hp) (fun r u t H1 locs1 ht hvm hp hB hz hk hS1 => ?_)
  have hp : (r, u.1) = out_ := hp
  subst hp
  have hW1 : Hw G A u t.heap := hB
  rw [ht] at hW1
  exact kk u H1 locs1 rfl hW1 hS1
noncomputable def eX0_said (τ : HP) (a0 : Nat) (a1 : Int32) (a2 : Int32) (a3 : Nat) : Option (Int32 × HH) :=
  wt_ck (hcl τ a0 = some 0) <| wt_bd (eX1_said τ a0 a1 a2) fun w2 => wt_rs w2 (fun o4 => wt_bd (haL o4.2 a3 4) fun z5 => wt_ck (vp_in (0 : Int32) z5.1) <| wt_lt (hst o4.2 a3 (.inl (4, z5.1, .inr (.inl (vp_updL z5.2 (0 : Int32).toNatClampNeg (Int32.toInt64 o4.1)))))) fun τ8 => some ((0 : Int32), τ8.1)) (fun x_ => if x_.1 = 101 then (some ((1 : Int32), x_.2.2.1)) else (none))
set_option maxHeartbeats 4000000 in
theorem wX0_said (l : Launch) (hfl : l.stackTraces = false) {G : HG} {A : Nat → Prop} {τ : HP} {a0 : Nat} {a1 : Int32} {a2 : Int32} {a3 : Nat} {out_ : Int32 × HH} (hd : eX0_said τ a0 a1 a2 a3 = some out_) : vx_Met l yX0_said (wsW_ yX0_said cX0_said 5 (some .int) [(0, 10, 13, 32)]) ({ frames := 12, cells := 124, slots := 4926, locals := 277 }) (hPc G A τ [.ref a0, .int a1, .int a2, .ref a3]) (hXi G A (fun r u => (r, u.1) = out_)) (hXX G A (Sum.inl out_ : (Int32 × HH) ⊕ (Nat × Nat × HP))) 124 4926 A := by
  refine vx_ofWH (hh := [(0, 10, 13, 32)]) (cc := cX0_said) (maxL := 5) (ret := (some .int)) (by decide) rfl ?_
  intro p_ e_ s_ m_ args_ below_ meth_ c_ s₁_ B hml hv
  obtain ⟨rfl, hW, hC⟩ := hv
  have hx := B.exec
  have hb := B.bytes
  have hr := B.returns
  have hts := atoms_spec (ws := (wsW_ yX0_said cX0_said 5 (some .int) [(0, 10, 13, 32)])) B.pre
  have hts : ∀ w ∈ lw_all, w.before _ s_ = true := fun w h => hts w (List.mem_cons_of_mem _ h)
  have hown : s_.vm.findClass RX0 = some m_.cls := findClass_of_methodNamed B.named
  have htab : c_.exceptionTable.toList = tableOf [(0, 10, 13, 32)] := vx_table (x := yX0_said) B (hts _ q1516)
  have hlocks := B.notSynchronized
  have hK := hC.1
  have hT := hC.2.1
  have hL := hC.2.2.1
  have hZ := hC.2.2.2.2.1
  have hA := hC.2.2.2.2.2
  have hS : va_S A s_.heap s_.heap [] := va_S.rf
  have hl := lv_entry ([.ref a0, .int a1, .int a2, .ref a3]) (n := 5) (Nat.le_of_ble_eq_true rfl)
  rw [lg_entry_eq]
  generalize (lg_sl ([.ref a0, .int a1, .int a2, .ref a3]) ++ List.replicate (5 - (lg_sl ([.ref a0, .int a1, .int a2, .ref a3])).length) Slot.unset).toArray = ls at hl ⊢
  have hl : lv_has ls 5 [(0, .ref a0), (1, .int a1), (2, .int a2), (3, .ref a3)] := hl
  unfold eX0_said at hd
  refine lv_aload_n (pc := 0) hx hb dX0_said_0 rfl (lv_at hl 3 rfl) ?_
  refine lv_iconst (pc := 1) (v := 0) hx hb dX0_said_1 (by decide) ?_
  refine lv_aload_n (pc := 2) hx hb dX0_said_2 rfl (lv_at hl 0 rfl) ?_
  refine lv_iload_n (pc := 3) hx hb dX0_said_3 rfl (lv_at hl 1 rfl) ?_
  refine lv_iload_n (pc := 4) hx hb dX0_said_4 rfl (lv_at hl 2 rfl) ?_
  obtain ⟨h1, hd⟩ := wt_ck_o hd
  obtain ⟨w2, hc3, hd⟩ := wt_bd_o hd
  refine kX1_said (pc := 5) hfl hx hb hml hown hts hC hW hS h1 hc3 hl.1 (Nat.le_of_ble_eq_true rfl) ⟨Nat.le_of_ble_eq_true rfl, Nat.le_of_ble_eq_true rfl⟩ ⟨(Nat.le_of_ble_eq_true rfl), (Nat.le_of_ble_eq_true rfl)⟩ q1517 dX0_said_5 (fun x_ hx_ E_ ce_ q9_ H locs hXB hS hce hvn hfc => ?_) (fun o4 ho_ H locs hW hS => ?_)
  · have hd := wt_rs_r hx_ hd
    by_cases c9 : x_.1 = 101
    · have hd := wt_it hd c9
      refine hx_catchJ (name := "java/util/NoSuchElementException") 101 hown [] (⟨0, 10, 13, 32⟩ : ExceptionTableEntry) [] (htab.trans rfl) c9 (by decide) rfl (fun y hy => by cases hy) (by decide) (by decide) (hts _ q998) (va_Nw.use rfl (hC.2.1.1 _ (hw_of q1009 rfl))) hXB hce hvn hfc (fun hW => ?_)
      refine lv_astore (pc := 13) (lv' := [(4, .ref q9_), (0, .ref a0), (1, .int a1), (2, .int a2), (3, .ref a3)]) hx hb dX0_said_13 hl (by decide) rfl (fun ls hl => ?_)
      refine lv_iconst (pc := 15) (v := 1) hx hb dX0_said_15 (by decide) ?_
      refine vx_ret ?_
      exact hx_iret (τ := (x_.2.2.1, H.size)) hx hb hr rfl hlocks (Option.some.inj hd) hW hS dX0_said_16 (Nat.le_of_ble_eq_true rfl) (Nat.le_of_ble_eq_true rfl)
    have hd := wt_if hd c9
    exact absurd hd (by intro h; cases h)
  · have hd := wt_rs_l ho_ hd
    refine lv_i2l (pc := 8) hx hb dX0_said_8 rfl ?_
    obtain ⟨z5, h6, hd⟩ := wt_bd_o hd
    obtain ⟨h7, hd⟩ := wt_ck_o hd
    obtain ⟨τ8, eτ8, hd⟩ := wt_lt_o hd
    refine hr_last (pc := 9) hx hb hK hW hS h6 h7 eτ8 dX0_said_9 (fun H locs hW hS => ?_)
    refine lv_goto (pc := 10) (tgt := 17) hx hb dX0_said_10 (by decide) ?_
    refine lv_iconst (pc := 17) (v := 0) hx hb dX0_said_17 (by decide) ?_
    refine vx_ret ?_
    exact hx_iret (τ := τ8) hx hb hr rfl hlocks (Option.some.inj hd) hW hS dX0_said_18 (Nat.le_of_ble_eq_true rfl) (Nat.le_of_ble_eq_true rfl)
theorem kX0_said {p : Program} {l : Launch} {e : Env} {R : Room} {s : State} {m : MethodId} {args : Array Value} {below : List Frame} {meth : Method} {c : Code} {H : Heap} {locs : List Loc} {cells slots : Nat} {Q : State → Prop} {cc : ByteArray} {pc : Nat} {ls : Array Slot} {rest : List Value} {nL : Nat} {own : String} {index : Nat} {G : HG} {A : Nat → Prop} {τ : HP} {a0 : Nat} {a1 : Int32} {a2 : Int32} {a3 : Nat} {out_ : Int32 × HH} (hfl : l.stackTraces = false) (hx : p.tables.exec = Jvm.exec) (hb : c.code = cc) (hml : c.maxLocals = nL) (hown : s.vm.findClass own = some m.cls) (hts : ∀ w ∈ lw_all, w.before args s = true) (hC : Hcx G A s) (hW : Hw G A τ H) (hS : va_S A s.heap H locs) (hd : eX0_said τ a0 a1 a2 a3 = some out_) (hsz : ls.size = nL) (hrm : (rest.map fun v => v.category).sum ≤ 8) (hR : 13 ≤ R.frames ∧ 301 ≤ R.locals) (hcs : (cells + 124) ≤ R.cells ∧ (slots + 4926) ≤ R.slots) (hlk : Cond.methodLink own index yX0_said ∈ lw_all) (hdg : decode cc pc = .ok (.invokestatic index, 3)) (kk : ∀ (u_ : HP) (H1 : Heap) (locs1 : List Loc), u_.1 = out_.2 → Hw G A u_ H1 → va_S A s.heap H1 locs1 → W p l e R s m args below meth c H1 locs1 (cells + 124) (slots + 4926) Q (F0 m (pc + 3) ls (.int out_.1 :: rest))) : W p l e R s m args below meth c H locs cells slots Q (F0 m pc ls (.ref a3 :: .int a2 :: .int a1 :: .ref a0 :: rest)) := by
  refine vx_calli (vx_runSX (As := [.ref a0, .int a1, .int a2, .ref a3]) (rest := rest) ⟨hx, hb, hml, hown, hts⟩ (wX0_said l hfl hd) (vx_cwSW 4 hts (lw_SW hlk q1515 q65 q1516) rfl rfl rfl (by decide +kernel) hR) (hr_preS hC hW hS) rfl rfl hsz rfl (lv_room hrm) hdg hcs) hS (fun _ _ h => h) (fun _ h => h) (fun _ _ h => h) (fun E ce q9 u t H1 locs1 ht hvm hp hB hz hk hS1 hce hvn hfc => by cases hp) (fun r u t H1 locs1 ht hvm hp hB hz hk hS1 => ?_)
  have hp : (r, u.1) = out_ := hp
  subst hp
  have hW1 : Hw G A u t.heap := hB
  rw [ht] at hW1
  exact kk u H1 locs1 rfl hW1 hS1
