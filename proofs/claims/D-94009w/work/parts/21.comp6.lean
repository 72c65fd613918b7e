/-! the component (by gen/comp.py) -/
set_option maxRecDepth 100000
theorem hf_0_5 : hfB [0] 5 "WoolThreads" "tape" "[B" true = true := by decide +kernel
theorem hf_0_2 : hfB [0] 2 "WoolThreads" "taped" "I" false = true := by decide +kernel
theorem hf_0_3 : hfB [0] 3 "WoolThreads" "faultAt" "I" false = true := by decide +kernel
theorem hf_0_4 : hfB [0] 4 "WoolThreads" "imageMany" "I" false = true := by decide +kernel
theorem hf_0_7 : hfB [0] 7 "WoolThreads" "images" "[LWoolThreads$State;" true = true := by decide +kernel
theorem hf_0_6 : hfB [0] 6 "WoolThreads" "stories" "Ljava/util/ArrayList;" true = true := by decide +kernel
theorem hf_6_1 : hfB [6] 1 "WoolThreads$Event" "hour" "I" true = true := by decide +kernel
theorem hx_w_iae : (vx_at0 "WoolThreads" 46 "java/lang/IllegalArgumentException" ["java/lang/RuntimeException", "java/lang/Exception"]).all (fun w => decide (w ∈ lw_tbl) && (goodWord w || hwB w)) = true := by decide +kernel
theorem hx_g_iae : ∀ w ∈ Cond.classLink "WoolThreads" 44 "java/lang/IllegalArgumentException" :: Cond.initialized "java/lang/IllegalArgumentException" :: vx_at0 "WoolThreads" 46 "java/lang/IllegalArgumentException" ["java/lang/RuntimeException", "java/lang/Exception"], vx_ot w = true := List.all_eq_true.mp (by decide +kernel)
theorem hx_throw_iae_X1 {p : Program} {l : Launch} {e : Env} {R : Room} {s : State} {m : MethodId} {args : Array Value} {below : List Frame} {meth : Method} {c : Code} {H : Heap} {locs : List Loc} {cells slots mc ms : Nat} {cc : ByteArray} {pc : Nat} {ls : Array Slot} {G : HG} {A : Nat → Prop} {τ : HP} {α : Type} {w : α ⊕ (Nat × Nat × HP)} {Qc : Array Value → State → Outcome → State → Prop} (hx : p.tables.exec = Jvm.exec) (hb : c.code = cc) (hfl : l.stackTraces = false) (hts : ∀ w ∈ lw_all, w.before args s = true) (hown : s.vm.findClass RX1 = some m.cls) (hC : Hcx G A s) (hW : Hw G A τ H) (hS : va_S A s.heap H locs) (hsz : ls.size = c.maxLocals) (hlocks : meth.locks = false) (hno : ∀ z ∈ c.exceptionTable.toList, False) (hw : Sum.inr (100, 0, τ) = w)
    (d0 : decode cc pc = .ok (.new 44, 3)) (d3 : decode cc (pc + 3) = .ok (.dup, 1)) (d4 : decode cc (pc + 4) = .ok (.invokespecial 46, 3)) (d7 : decode cc (pc + 7) = .ok (.athrow, 1)) (hRf : 6 ≤ R.frames) (hRl : 100 ≤ R.locals) (hRc : cells + 1 ≤ R.cells ∧ slots + 6 ≤ R.slots) (hc : cells + 1 ≤ mc) (hs : slots + 6 ≤ ms) :
    W p l e R s m args below meth c H locs cells slots (vx_MQ below Qc (hXX G A w) args s mc ms A) (F0 m pc ls []) := by
  refine vx_throw0 (own := "WoolThreads") (cls := "java/lang/IllegalArgumentException") (names := ["java/lang/RuntimeException", "java/lang/Exception"]) (A := A) hx hb hfl hown (by decide) (by decide) (hts _ q679) (hts _ q75) (hx_words hx_w_iae hts hC.2.1) hx_g_iae hC.2.2.2.2.1.2.1 hC.2.2.2.2.1.2.2 hS hsz d0 d3 d4 d7 (fun z hz => (hno z hz).elim) (Nat.lt_of_lt_of_le (by decide) hRf) (Nat.le_trans (by decide) hRl) hRc.1 hRc.2 hlocks (fun q9 t ha hz hk => ?_) hS.2.2 hc hs
  refine ⟨(100, 0, τ), hw, ⟨rfl, fun h => absurd (show (100 : Nat) = 4 from h) (by decide), fun _ => ⟨rfl, fun q x hx => ⟨(hW.2 q x hx).1.kept (hk q (hW.2 q x hx).1.lt), (hW.2 q x hx).2⟩⟩⟩, Nat.le_trans hS.1 hz, fun q h1 h2 => ?_⟩
  rw [hk q (Nat.lt_of_lt_of_le h1 hS.1)]
  exact hS.2.1 q h1 h2
theorem hx_w_nse : (vx_at0 "WoolThreads" 53 "java/util/NoSuchElementException" ["java/lang/RuntimeException", "java/lang/Exception"]).all (fun w => decide (w ∈ lw_tbl) && (goodWord w || hwB w)) = true := by decide +kernel
theorem hx_g_nse : ∀ w ∈ Cond.classLink "WoolThreads" 51 "java/util/NoSuchElementException" :: Cond.initialized "java/util/NoSuchElementException" :: vx_at0 "WoolThreads" 53 "java/util/NoSuchElementException" ["java/lang/RuntimeException", "java/lang/Exception"], vx_ot w = true := List.all_eq_true.mp (by decide +kernel)
theorem hx_throw_nse_X1 {p : Program} {l : Launch} {e : Env} {R : Room} {s : State} {m : MethodId} {args : Array Value} {below : List Frame} {meth : Method} {c : Code} {H : Heap} {locs : List Loc} {cells slots mc ms : Nat} {cc : ByteArray} {pc : Nat} {ls : Array Slot} {G : HG} {A : Nat → Prop} {τ : HP} {α : Type} {w : α ⊕ (Nat × Nat × HP)} {Qc : Array Value → State → Outcome → State → Prop} (hx : p.tables.exec = Jvm.exec) (hb : c.code = cc) (hfl : l.stackTraces = false) (hts : ∀ w ∈ lw_all, w.before args s = true) (hown : s.vm.findClass RX1 = some m.cls) (hC : Hcx G A s) (hW : Hw G A τ H) (hS : va_S A s.heap H locs) (hsz : ls.size = c.maxLocals) (hlocks : meth.locks = false) (hno : ∀ z ∈ c.exceptionTable.toList, False) (hw : Sum.inr (101, 0, τ) = w)
    (d0 : decode cc pc = .ok (.new 51, 3)) (d3 : decode cc (pc + 3) = .ok (.dup, 1)) (d4 : decode cc (pc + 4) = .ok (.invokespecial 53, 3)) (d7 : decode cc (pc + 7) = .ok (.athrow, 1)) (hRf : 6 ≤ R.frames) (hRl : 100 ≤ R.locals) (hRc : cells + 1 ≤ R.cells ∧ slots + 6 ≤ R.slots) (hc : cells + 1 ≤ mc) (hs : slots + 6 ≤ ms) :
    W p l e R s m args below meth c H locs cells slots (vx_MQ below Qc (hXX G A w) args s mc ms A) (F0 m pc ls []) := by
  refine vx_throw0 (own := "WoolThreads") (cls := "java/util/NoSuchElementException") (names := ["java/lang/RuntimeException", "java/lang/Exception"]) (A := A) hx hb hfl hown (by decide) (by decide) (hts _ q1007) (hts _ q96) (hx_words hx_w_nse hts hC.2.1) hx_g_nse hC.2.2.2.2.1.2.1 hC.2.2.2.2.1.2.2 hS hsz d0 d3 d4 d7 (fun z hz => (hno z hz).elim) (Nat.lt_of_lt_of_le (by decide) hRf) (Nat.le_trans (by decide) hRl) hRc.1 hRc.2 hlocks (fun q9 t ha hz hk => ?_) hS.2.2 hc hs
  refine ⟨(101, 0, τ), hw, ⟨rfl, fun h => absurd (show (101 : Nat) = 4 from h) (by decide), fun _ => ⟨rfl, fun q x hx => ⟨(hW.2 q x hx).1.kept (hk q (hW.2 q x hx).1.lt), (hW.2 q x hx).2⟩⟩⟩, Nat.le_trans hS.1 hz, fun q h1 h2 => ?_⟩
  rw [hk q (Nat.lt_of_lt_of_le h1 hS.1)]
  exact hS.2.1 q h1 h2
theorem hx_w_iob : (vx_at0 "WoolThreads" 162 "java/lang/IndexOutOfBoundsException" ["java/lang/RuntimeException", "java/lang/Exception"]).all (fun w => decide (w ∈ lw_tbl) && (goodWord w || hwB w)) = true := by decide +kernel
theorem hx_g_iob : ∀ w ∈ Cond.classLink "WoolThreads" 160 "java/lang/IndexOutOfBoundsException" :: Cond.initialized "java/lang/IndexOutOfBoundsException" :: vx_at0 "WoolThreads" 162 "java/lang/IndexOutOfBoundsException" ["java/lang/RuntimeException", "java/lang/Exception"], vx_ot w = true := List.all_eq_true.mp (by decide +kernel)
theorem hx_throw_iob_X1 {p : Program} {l : Launch} {e : Env} {R : Room} {s : State} {m : MethodId} {args : Array Value} {below : List Frame} {meth : Method} {c : Code} {H : Heap} {locs : List Loc} {cells slots mc ms : Nat} {cc : ByteArray} {pc : Nat} {ls : Array Slot} {G : HG} {A : Nat → Prop} {τ : HP} {α : Type} {w : α ⊕ (Nat × Nat × HP)} {Qc : Array Value → State → Outcome → State → Prop} (hx : p.tables.exec = Jvm.exec) (hb : c.code = cc) (hfl : l.stackTraces = false) (hts : ∀ w ∈ lw_all, w.before args s = true) (hown : s.vm.findClass RX1 = some m.cls) (hC : Hcx G A s) (hW : Hw G A τ H) (hS : va_S A s.heap H locs) (hsz : ls.size = c.maxLocals) (hlocks : meth.locks = false) (hno : ∀ z ∈ c.exceptionTable.toList, False) (hw : Sum.inr (102, 0, τ) = w)
    (d0 : decode cc pc = .ok (.new 160, 3)) (d3 : decode cc (pc + 3) = .ok (.dup, 1)) (d4 : decode cc (pc + 4) = .ok (.invokespecial 162, 3)) (d7 : decode cc (pc + 7) = .ok (.athrow, 1)) (hRf : 6 ≤ R.frames) (hRl : 100 ≤ R.locals) (hRc : cells + 1 ≤ R.cells ∧ slots + 6 ≤ R.slots) (hc : cells + 1 ≤ mc) (hs : slots + 6 ≤ ms) :
    W p l e R s m args below meth c H locs cells slots (vx_MQ below Qc (hXX G A w) args s mc ms A) (F0 m pc ls []) := by
  refine vx_throw0 (own := "WoolThreads") (cls := "java/lang/IndexOutOfBoundsException") (names := ["java/lang/RuntimeException", "java/lang/Exception"]) (A := A) hx hb hfl hown (by decide) (by decide) (hts _ q1219) (hts _ q100) (hx_words hx_w_iob hts hC.2.1) hx_g_iob hC.2.2.2.2.1.2.1 hC.2.2.2.2.1.2.2 hS hsz d0 d3 d4 d7 (fun z hz => (hno z hz).elim) (Nat.lt_of_lt_of_le (by decide) hRf) (Nat.le_trans (by decide) hRl) hRc.1 hRc.2 hlocks (fun q9 t ha hz hk => ?_) hS.2.2 hc hs
  refine ⟨(102, 0, τ), hw, ⟨rfl, fun h => absurd (show (102 : Nat) = 4 from h) (by decide), fun _ => ⟨rfl, fun q x hx => ⟨(hW.2 q x hx).1.kept (hk q (hW.2 q x hx).1.lt), (hW.2 q x hx).2⟩⟩⟩, Nat.le_trans hS.1 hz, fun q h1 h2 => ?_⟩
  rw [hk q (Nat.lt_of_lt_of_le h1 hS.1)]
  exact hS.2.1 q h1 h2
noncomputable def bX1_put_1 (o_ : Nat) (a0 : Int32) (v1 : Int32 × HP) : Option ((Int32 × HP) ⊕ (HP)) :=
  if v1.1 < 0 then (some (.inr v1.2)) else (wt_bd (hgA v1.2 o_ [0] 5) fun ad12 => wt_bd (hgI v1.2 o_ [0] 2) fun f14 => wt_bd (haI v1.2 ad12 1) fun z16 => wt_ck (vp_in f14 z16.1) <| wt_lt (hst v1.2 ad12 (.inl (1, z16.1, .inl (upd z16.2 f14.toNatClampNeg (Int8.toInt32 (Int32.toInt8 (Int8.toInt32 (Int32.toInt8 (a0 >>> (v1.1 &&& 31)))))))))) fun τ19 => wt_bd (hgI τ19 o_ [0] 2) fun f20 => wt_bd (hp τ19 o_ [0] 2 (.int ((f20 + (1 : Int32))))) fun τ22 => wt_lt (v1.1 + (-8 : Int32)) fun n24 => some (.inl (n24, τ22)))
noncomputable def eX1_put (τ : HP) (o_ : Nat) (a0 : Int32) : Option (HP) :=
  wt_bd (wt_whC (bX1_put_1 o_ a0) ((24 : Int32), τ)) fun w2 => some w2
set_option maxHeartbeats 4000000 in
theorem wX1_put (l : Launch) {G : HG} {A : Nat → Prop} {τ : HP} {o_ : Nat} {a0 : Int32} {out_ : HP} (hd : eX1_put τ o_ a0 = some out_) : Met l yX1_put (ws_ yX1_put cX1_put 3 none) ({ frames := 0, cells := 0, slots := 0, locals := 0 }) (hPc G A τ [.ref o_, .int a0]) (hQv G out_ A) 0 0 A := by
  refine Met.ofW (cc := cX1_put) (maxL := 3) (ret := none) (by decide) rfl ?_
  intro p_ e_ s_ m_ args_ below_ meth_ c_ s₁_ B hml hv
  obtain ⟨rfl, hW, hC⟩ := hv
  have hx := B.exec
  have hb := B.bytes
  have hr := B.returns
  have hts := atoms_spec (ws := (ws_ yX1_put cX1_put 3 none)) B.pre
  have hts : ∀ w ∈ lw_all, w.before _ s_ = true := fun w h => hts w (List.mem_cons_of_mem _ h)
  have hown : s_.vm.findClass RX1 = some m_.cls := findClass_of_methodNamed B.named
  have hlocks := B.notSynchronized
  have hK := hC.1
  have hT := hC.2.1
  have hL := hC.2.2.1
  have hZ := hC.2.2.2.2.1
  have hA := hC.2.2.2.2.2
  have hS : va_S A s_.heap s_.heap [] := va_S.rf
  have hl := lv_entry ([.ref o_, .int a0]) (n := 3) (Nat.le_of_ble_eq_true rfl)
  rw [lg_entry_eq]
  generalize (lg_sl ([.ref o_, .int a0]) ++ List.replicate (3 - (lg_sl ([.ref o_, .int a0])).length) Slot.unset).toArray = ls at hl ⊢
  have hl : lv_has ls 3 [(0, .ref o_), (1, .int a0)] := hl
  unfold eX1_put at hd
  refine lv_bipush (pc := 0) (v := 24) hx hb dX1_put_0 (by decide) ?_
  refine lv_istore_n (pc := 2) (lv' := [(2, .int (24 : Int32)), (0, .ref o_), (1, .int a0)]) hx hb dX1_put_2 rfl hl (by decide) rfl (fun ls hl => ?_)
  obtain ⟨w2, hL3, hq4⟩ := wt_bd_o hd
  have hX5 : ∀ w2_ : HP, w2_ = w2 → ∀ (H : Heap) (locs : List Loc) (ls : Array Slot), Hw G A w2_ H → va_S A s_.heap H locs → lv_has ls 3 [] → W p_ l e_ (headSpec (ws_ yX1_put cX1_put 3 none) ({ frames := 0, cells := 0, slots := 0, locals := 0 })).room s_ m_ ([.ref o_, .int a0] : List Value).toArray below_ meth_ c_ H locs 0 0 (MQ below_ (hQv G out_ A) ([.ref o_, .int a0] : List Value).toArray s_ 0 0 A) (F0 m_ 36 ls []) := by
    intro w2_ hw_
    have hd := hq4
    subst hw_
    clear hL3 hq4
    intro H locs ls hW hS hl
    exact hr_vret hx hb hr hlocks (Option.some.inj hd) hW hS dX1_put_36 (Nat.le_of_ble_eq_true rfl) (Nat.le_of_ble_eq_true rfl)
  have hI10 : ∀ (k9 : Nat) (v1 : Int32 × HP), wt_wh (bX1_put_1 o_ a0) k9 v1 = some w2 → ∀ (H : Heap) (locs : List Loc) (ls : Array Slot), Hw G A v1.2 H → va_S A s_.heap H locs → lv_has ls 3 [(0, .ref o_), (1, .int a0), (2, .int v1.1)] → W p_ l e_ (headSpec (ws_ yX1_put cX1_put 3 none) ({ frames := 0, cells := 0, slots := 0, locals := 0 })).room s_ m_ ([.ref o_, .int a0] : List Value).toArray below_ meth_ c_ H locs 0 0 (MQ below_ (hQv G out_ A) ([.ref o_, .int a0] : List Value).toArray s_ 0 0 A) (F0 m_ 3 ls []) := by
    intro k9
    induction k9 with
    | zero => intro v1 hd; exact absurd hd wt_wh_z
    | succ k9 ih7 =>
      intro v1 hd
      intro H locs ls hW hS hl
      obtain ⟨r8, hd, hk6⟩ := wt_wh_o hd
      unfold bX1_put_1 at hd
      refine lv_iload_n (pc := 3) hx hb dX1_put_3 rfl (lv_at hl 2 rfl) ?_
      refine lv_if_lt (pc := 4) (tgt := 36) hx hb dX1_put_4 (by decide) (fun c11 => ?_) (fun c11 => ?_)
      · have hd := wt_it hd c11
        exact hX5 v1.2 (wt_exit hd hk6) _ _ _ hW hS (lv_sub hl [] rfl)
      · have hd := wt_if hd c11
        refine lv_aload_n (pc := 7) hx hb dX1_put_7 rfl (lv_at hl 0 rfl) ?_
        obtain ⟨ad12, h13, hd⟩ := wt_bd_o hd
        refine hr_get (pc := 8) hx hb hts hown hK hW (hgA_o h13) hf_0_5 (fun _ h => h) q541 dX1_put_8 ?_
        refine lv_aload_n (pc := 11) hx hb dX1_put_11 rfl (lv_at hl 0 rfl) ?_
        obtain ⟨f14, h15, hd⟩ := wt_bd_o hd
        refine hr_get (pc := 12) hx hb hts hown hK hW (hgI_o h15) hf_0_2 (fun _ h => h) q538 dX1_put_12 ?_
        refine lv_iload_n (pc := 15) hx hb dX1_put_15 rfl (lv_at hl 1 rfl) ?_
        refine lv_iload_n (pc := 16) hx hb dX1_put_16 rfl (lv_at hl 2 rfl) ?_
        refine lv_ishr (pc := 17) hx hb dX1_put_17 ?_
        refine lv_i2b (pc := 18) hx hb dX1_put_18 rfl ?_
        obtain ⟨z16, h17, hd⟩ := wt_bd_o hd
        obtain ⟨h18, hd⟩ := wt_ck_o hd
        obtain ⟨τ19, eτ19, hd⟩ := wt_lt_o hd
        refine hr_bast (pc := 19) hx hb hK hW hS h17 h18 eτ19 dX1_put_19 (fun H locs hW hS => ?_)
        refine lv_aload_n (pc := 20) hx hb dX1_put_20 rfl (lv_at hl 0 rfl) ?_
        refine lv_dup (pc := 21) hx hb dX1_put_21 rfl ?_
        obtain ⟨f20, h21, hd⟩ := wt_bd_o hd
        refine hr_get (pc := 22) hx hb hts hown hK hW (hgI_o h21) hf_0_2 (fun _ h => h) q538 dX1_put_22 ?_
        refine lv_iconst (pc := 25) (v := 1) hx hb dX1_put_25 (by decide) ?_
        refine lv_iadd (pc := 26) hx hb dX1_put_26 ?_
        obtain ⟨τ22, h23, hd⟩ := wt_bd_o hd
        refine hr_put (pc := 27) (ty := .int) hx hb hts hown hK hW hS h23 hf_0_2 (by decide +kernel) rfl rfl (fun _ h => h) q538 dX1_put_27 (fun H locs hW hS => ?_)
        obtain ⟨n24, en24, hd⟩ := wt_lt_o hd
        refine lv_iinc (pc := 30) (k := 2) (v := n24) (lv' := [(2, .int n24), (0, .ref o_), (1, .int a0)]) hx hb dX1_put_30 hl rfl en24.symm (by decide) rfl (fun ls hl => ?_)
        refine lv_goto (pc := 33) (tgt := 3) hx hb dX1_put_33 (by decide) ?_
        exact ih7 _ (wt_again hd hk6) _ _ _ hW hS (lv_sub hl [1, 2, 0] rfl)
  obtain ⟨k9, hL3⟩ := wt_whC_o hL3
  exact hI10 k9 _ hL3 _ _ _ hW hS (lv_sub hl [1, 2, 0] rfl)
theorem kX1_put {p : Program} {l : Launch} {e : Env} {R : Room} {s : State} {m : MethodId} {args : Array Value} {below : List Frame} {meth : Method} {c : Code} {H : Heap} {locs : List Loc} {cells slots : Nat} {Q : State → Prop} {cc : ByteArray} {pc : Nat} {ls : Array Slot} {rest : List Value} {nL : Nat} {own : String} {index : Nat} {G : HG} {A : Nat → Prop} {τ : HP} {o_ : Nat} {a0 : Int32} {out_ : HP} (hx : p.tables.exec = Jvm.exec) (hb : c.code = cc) (hml : c.maxLocals = nL) (hown : s.vm.findClass own = some m.cls) (hts : ∀ w ∈ lw_all, w.before args s = true) (hC : Hcx G A s) (hW : Hw G A τ H) (hS : va_S A s.heap H locs) (hrc : hcl τ o_ = some 0) (hd : eX1_put τ o_ a0 = some out_) (hsz : ls.size = nL) (hrm : (rest.map fun v => v.category).sum ≤ 8) (hR : 1 ≤ R.frames ∧ 22 ≤ R.locals) (hcs : cells ≤ R.cells ∧ slots ≤ R.slots) (hlk : Cond.methodLink own index yX1_put ∈ lw_all) (hdg : decode cc pc = .ok (.invokevirtual index, 3)) (kk : ∀ (H1 : Heap) (locs1 : List Loc), Hw G A out_ H1 → va_S A s.heap H1 locs1 → W p l e R s m args below meth c H1 locs1 cells slots Q (F0 m (pc + 3) ls (rest))) : W p l e R s m args below meth c H locs cells slots Q (F0 m pc ls (.int a0 :: .ref o_ :: rest)) := by
  refine va_callv (va_runV (As := [.int a0]) (rest := rest) ⟨hx, hb, hml, hown, hts⟩ (wX1_put l hd) (cwV 1 hts (lw_V hlk q567 qs1 q66 q568) rfl rfl rfl (by decide +kernel) hR) (hr_preV hC hW hS hrc rfl rfl) rfl rfl hsz rfl (lv_room hrm) hdg hcs) hS (fun _ _ h => h) (fun _ h => h) (fun u t H1 locs1 ht hvm hp hB hz hk hS1 => ?_)
  have hW1 : Hw G A out_ t.heap := hB
  rw [ht] at hW1
  exact kk H1 locs1 hW1 hS1
noncomputable def eX1_feed (τ : HP) (o_ : Nat) (a0 : Int32) (a1 : Int32) (a2 : Int32) (a3 : Int32) (a4 : Int32) : Option (Int32 × HP) :=
  wt_bd (hgI τ o_ [0] 2) fun f1 => if (f1 + (20 : Int32)) ≤ (400 : Int32) then (wt_ck (hcl τ o_ = some 0) <| wt_bd (eX1_put τ o_ a0) fun w5 => wt_ck (hcl w5 o_ = some 0) <| wt_bd (eX1_put w5 o_ a1) fun w8 => wt_ck (hcl w8 o_ = some 0) <| wt_bd (eX1_put w8 o_ a2) fun w11 => wt_ck (hcl w11 o_ = some 0) <| wt_bd (eX1_put w11 o_ a3) fun w14 => wt_ck (hcl w14 o_ = some 0) <| wt_bd (eX1_put w14 o_ a4) fun w17 => wt_bd (hgI w17 o_ [0] 2) fun f19 => some (f19, w17)) else (some ((-1 : Int32), τ))
set_option maxHeartbeats 4000000 in
theorem wX1_feed (l : Launch) {G : HG} {A : Nat → Prop} {τ : HP} {o_ : Nat} {a0 : Int32} {a1 : Int32} {a2 : Int32} {a3 : Int32} {a4 : Int32} {out_ : Int32 × HP} (hd : eX1_feed τ o_ a0 a1 a2 a3 a4 = some out_) : Met l yX1_feed (ws_ yX1_feed cX1_feed 6 (some .int)) ({ frames := 1, cells := 0, slots := 0, locals := 22 }) (hPc G A τ [.ref o_, .int a0, .int a1, .int a2, .int a3, .int a4]) (hQi G out_.1 out_.2 A) 0 0 A := by
  refine Met.ofW (cc := cX1_feed) (maxL := 6) (ret := (some .int)) (by decide) rfl ?_
  intro p_ e_ s_ m_ args_ below_ meth_ c_ s₁_ B hml hv
  obtain ⟨rfl, hW, hC⟩ := hv
  have hx := B.exec
  have hb := B.bytes
  have hr := B.returns
  have hts := atoms_spec (ws := (ws_ yX1_feed cX1_feed 6 (some .int))) B.pre
  have hts : ∀ w ∈ lw_all, w.before _ s_ = true := fun w h => hts w (List.mem_cons_of_mem _ h)
  have hown : s_.vm.findClass RX1 = some m_.cls := findClass_of_methodNamed B.named
  have hlocks := B.notSynchronized
  have hK := hC.1
  have hT := hC.2.1
  have hL := hC.2.2.1
  have hZ := hC.2.2.2.2.1
  have hA := hC.2.2.2.2.2
  have hS : va_S A s_.heap s_.heap [] := va_S.rf
  have hl := lv_entry ([.ref o_, .int a0, .int a1, .int a2, .int a3, .int a4]) (n := 6) (Nat.le_of_ble_eq_true rfl)
  rw [lg_entry_eq]
  generalize (lg_sl ([.ref o_, .int a0, .int a1, .int a2, .int a3, .int a4]) ++ List.replicate (6 - (lg_sl ([.ref o_, .int a0, .int a1, .int a2, .int a3, .int a4])).length) Slot.unset).toArray = ls at hl ⊢
  have hl : lv_has ls 6 [(0, .ref o_), (1, .int a0), (2, .int a1), (3, .int a2), (4, .int a3), (5, .int a4)] := hl
  unfold eX1_feed at hd
  refine lv_aload_n (pc := 0) hx hb dX1_feed_0 rfl (lv_at hl 0 rfl) ?_
  obtain ⟨f1, h2, hd⟩ := wt_bd_o hd
  refine hr_get (pc := 1) hx hb hts hown hK hW (hgI_o h2) hf_0_2 (fun _ h => h) q538 dX1_feed_1 ?_
  refine lv_bipush (pc := 4) (v := 20) hx hb dX1_feed_4 (by decide) ?_
  refine lv_iadd (pc := 6) hx hb dX1_feed_6 ?_
  refine lv_sipush (pc := 7) (v := 400) hx hb dX1_feed_7 (by decide) ?_
  refine lv_icmp_le (pc := 10) (tgt := 15) hx hb dX1_feed_10 (by decide) (fun c3 => ?_) (fun c3 => ?_)
  · have hd := wt_it hd c3
    refine lv_aload_n (pc := 15) hx hb dX1_feed_15 rfl (lv_at hl 0 rfl) ?_
    refine lv_iload_n (pc := 16) hx hb dX1_feed_16 rfl (lv_at hl 1 rfl) ?_
    obtain ⟨h4, hd⟩ := wt_ck_o hd
    obtain ⟨w5, hc6, hd⟩ := wt_bd_o hd
    refine kX1_put (pc := 17) hx hb hml hown hts hC hW hS h4 hc6 hl.1 (Nat.le_of_ble_eq_true rfl) ⟨Nat.le_of_ble_eq_true rfl, Nat.le_of_ble_eq_true rfl⟩ ⟨Nat.le_of_ble_eq_true rfl, Nat.le_of_ble_eq_true rfl⟩ q565 dX1_feed_17 (fun H locs hW hS => ?_)
    refine lv_aload_n (pc := 20) hx hb dX1_feed_20 rfl (lv_at hl 0 rfl) ?_
    refine lv_iload_n (pc := 21) hx hb dX1_feed_21 rfl (lv_at hl 2 rfl) ?_
    obtain ⟨h7, hd⟩ := wt_ck_o hd
    obtain ⟨w8, hc9, hd⟩ := wt_bd_o hd
    refine kX1_put (pc := 22) hx hb hml hown hts hC hW hS h7 hc9 hl.1 (Nat.le_of_ble_eq_true rfl) ⟨Nat.le_of_ble_eq_true rfl, Nat.le_of_ble_eq_true rfl⟩ ⟨Nat.le_of_ble_eq_true rfl, Nat.le_of_ble_eq_true rfl⟩ q565 dX1_feed_22 (fun H locs hW hS => ?_)
    refine lv_aload_n (pc := 25) hx hb dX1_feed_25 rfl (lv_at hl 0 rfl) ?_
    refine lv_iload_n (pc := 26) hx hb dX1_feed_26 rfl (lv_at hl 3 rfl) ?_
    obtain ⟨h10, hd⟩ := wt_ck_o hd
    obtain ⟨w11, hc12, hd⟩ := wt_bd_o hd
    refine kX1_put (pc := 27) hx hb hml hown hts hC hW hS h10 hc12 hl.1 (Nat.le_of_ble_eq_true rfl) ⟨Nat.le_of_ble_eq_true rfl, Nat.le_of_ble_eq_true rfl⟩ ⟨Nat.le_of_ble_eq_true rfl, Nat.le_of_ble_eq_true rfl⟩ q565 dX1_feed_27 (fun H locs hW hS => ?_)
    refine lv_aload_n (pc := 30) hx hb dX1_feed_30 rfl (lv_at hl 0 rfl) ?_
    refine lv_iload (pc := 31) hx hb dX1_feed_31 (lv_at hl 4 rfl) ?_
    obtain ⟨h13, hd⟩ := wt_ck_o hd
    obtain ⟨w14, hc15, hd⟩ := wt_bd_o hd
    refine kX1_put (pc := 33) hx hb hml hown hts hC hW hS h13 hc15 hl.1 (Nat.le_of_ble_eq_true rfl) ⟨Nat.le_of_ble_eq_true rfl, Nat.le_of_ble_eq_true rfl⟩ ⟨Nat.le_of_ble_eq_true rfl, Nat.le_of_ble_eq_true rfl⟩ q565 dX1_feed_33 (fun H locs hW hS => ?_)
    refine lv_aload_n (pc := 36) hx hb dX1_feed_36 rfl (lv_at hl 0 rfl) ?_
    refine lv_iload (pc := 37) hx hb dX1_feed_37 (lv_at hl 5 rfl) ?_
    obtain ⟨h16, hd⟩ := wt_ck_o hd
    obtain ⟨w17, hc18, hd⟩ := wt_bd_o hd
    refine kX1_put (pc := 39) hx hb hml hown hts hC hW hS h16 hc18 hl.1 (Nat.le_of_ble_eq_true rfl) ⟨Nat.le_of_ble_eq_true rfl, Nat.le_of_ble_eq_true rfl⟩ ⟨Nat.le_of_ble_eq_true rfl, Nat.le_of_ble_eq_true rfl⟩ q565 dX1_feed_39 (fun H locs hW hS => ?_)
    refine lv_aload_n (pc := 42) hx hb dX1_feed_42 rfl (lv_at hl 0 rfl) ?_
    obtain ⟨f19, h20, hd⟩ := wt_bd_o hd
    refine hr_get (pc := 43) hx hb hts hown hK hW (hgI_o h20) hf_0_2 (fun _ h => h) q538 dX1_feed_43 ?_
    exact hr_iret hx hb hr rfl hlocks (wt_p1 hd) (wt_p2 hd) hW hS dX1_feed_46 (Nat.le_of_ble_eq_true rfl) (Nat.le_of_ble_eq_true rfl)
  · have hd := wt_if hd c3
    refine lv_iconst (pc := 13) (v := -1) hx hb dX1_feed_13 (by decide) ?_
    exact hr_iret hx hb hr rfl hlocks (wt_p1 hd) (wt_p2 hd) hW hS dX1_feed_14 (Nat.le_of_ble_eq_true rfl) (Nat.le_of_ble_eq_true rfl)
theorem kX1_feed {p : Program} {l : Launch} {e : Env} {R : Room} {s : State} {m : MethodId} {args : Array Value} {below : List Frame} {meth : Method} {c : Code} {H : Heap} {locs : List Loc} {cells slots : Nat} {Q : State → Prop} {cc : ByteArray} {pc : Nat} {ls : Array Slot} {rest : List Value} {nL : Nat} {own : String} {index : Nat} {G : HG} {A : Nat → Prop} {τ : HP} {o_ : Nat} {a0 : Int32} {a1 : Int32} {a2 : Int32} {a3 : Int32} {a4 : Int32} {out_ : Int32 × HP} (hx : p.tables.exec = Jvm.exec) (hb : c.code = cc) (hml : c.maxLocals = nL) (hown : s.vm.findClass own = some m.cls) (hts : ∀ w ∈ lw_all, w.before args s = true) (hC : Hcx G A s) (hW : Hw G A τ H) (hS : va_S A s.heap H locs) (hrc : hcl τ o_ = some 0) (hd : eX1_feed τ o_ a0 a1 a2 a3 a4 = some out_) (hsz : ls.size = nL) (hrm : (rest.map fun v => v.category).sum ≤ 8) (hR : 2 ≤ R.frames ∧ 47 ≤ R.locals) (hcs : cells ≤ R.cells ∧ slots ≤ R.slots) (hlk : Cond.methodLink own index yX1_feed ∈ lw_all) (hdg : decode cc pc = .ok (.invokevirtual index, 3)) (kk : ∀ (H1 : Heap) (locs1 : List Loc), Hw G A out_.2 H1 → va_S A s.heap H1 locs1 → W p l e R s m args below meth c H1 locs1 cells slots Q (F0 m (pc + 3) ls (.int out_.1 :: rest))) : W p l e R s m args below meth c H locs cells slots Q (F0 m pc ls (.int a4 :: .int a3 :: .int a2 :: .int a1 :: .int a0 :: .ref o_ :: rest)) := by
  refine va_calli (va_runV (As := [.int a0, .int a1, .int a2, .int a3, .int a4]) (rest := rest) ⟨hx, hb, hml, hown, hts⟩ (wX1_feed l hd) (cwV 5 hts (lw_V hlk q562 q563 q66 q564) rfl rfl rfl (by decide +kernel) hR) (hr_preV hC hW hS hrc rfl rfl) rfl rfl hsz rfl (lv_room hrm) hdg hcs) hS (fun _ _ h => h) (fun _ h => h) (fun r u t H1 locs1 ht hvm hp hB hz hk hS1 => ?_)
  have hp : r = out_.1 := hp
  subst hp
  have hW1 : Hw G A out_.2 t.heap := hB
  rw [ht] at hW1
  exact kk H1 locs1 hW1 hS1
noncomputable def eX1_fault (τ : HP) (o_ : Nat) : Option (Int32) :=
  wt_bd (hgI τ o_ [0] 3) fun f1 => some f1
set_option maxHeartbeats 4000000 in
theorem wX1_fault (l : Launch) {G : HG} {A : Nat → Prop} {τ : HP} {o_ : Nat} {out_ : Int32} (hd : eX1_fault τ o_ = some out_) : Met l yX1_fault (ws_ yX1_fault cX1_fault 1 (some .int)) ({ frames := 0, cells := 0, slots := 0, locals := 0 }) (hPc G A τ [.ref o_]) (hQi G out_ τ A) 0 0 A := by
  refine Met.ofW (cc := cX1_fault) (maxL := 1) (ret := (some .int)) (by decide) rfl ?_
  intro p_ e_ s_ m_ args_ below_ meth_ c_ s₁_ B hml hv
  obtain ⟨rfl, hW, hC⟩ := hv
  have hx := B.exec
  have hb := B.bytes
  have hr := B.returns
  have hts := atoms_spec (ws := (ws_ yX1_fault cX1_fault 1 (some .int))) B.pre
  have hts : ∀ w ∈ lw_all, w.before _ s_ = true := fun w h => hts w (List.mem_cons_of_mem _ h)
  have hown : s_.vm.findClass RX1 = some m_.cls := findClass_of_methodNamed B.named
  have hlocks := B.notSynchronized
  have hK := hC.1
  have hT := hC.2.1
  have hL := hC.2.2.1
  have hZ := hC.2.2.2.2.1
  have hA := hC.2.2.2.2.2
  have hS : va_S A s_.heap s_.heap [] := va_S.rf
  have hl := lv_entry ([.ref o_]) (n := 1) (Nat.le_of_ble_eq_true rfl)
  rw [lg_entry_eq]
  generalize (lg_sl ([.ref o_]) ++ List.replicate (1 - (lg_sl ([.ref o_])).length) Slot.unset).toArray = ls at hl ⊢
  have hl : lv_has ls 1 [(0, .ref o_)] := hl
  unfold eX1_fault at hd
  refine lv_aload_n (pc := 0) hx hb dX1_fault_0 rfl (lv_at hl 0 rfl) ?_
  obtain ⟨f1, h2, hd⟩ := wt_bd_o hd
  refine hr_get (pc := 1) hx hb hts hown hK hW (hgI_o h2) hf_0_3 (fun _ h => h) q539 dX1_fault_1 ?_
  exact hr_iret hx hb hr rfl hlocks (Option.some.inj hd) rfl hW hS dX1_fault_4 (Nat.le_of_ble_eq_true rfl) (Nat.le_of_ble_eq_true rfl)
theorem kX1_fault {p : Program} {l : Launch} {e : Env} {R : Room} {s : State} {m : MethodId} {args : Array Value} {below : List Frame} {meth : Method} {c : Code} {H : Heap} {locs : List Loc} {cells slots : Nat} {Q : State → Prop} {cc : ByteArray} {pc : Nat} {ls : Array Slot} {rest : List Value} {nL : Nat} {own : String} {index : Nat} {G : HG} {A : Nat → Prop} {τ : HP} {o_ : Nat} {out_ : Int32} (hx : p.tables.exec = Jvm.exec) (hb : c.code = cc) (hml : c.maxLocals = nL) (hown : s.vm.findClass own = some m.cls) (hts : ∀ w ∈ lw_all, w.before args s = true) (hC : Hcx G A s) (hW : Hw G A τ H) (hS : va_S A s.heap H locs) (hrc : hcl τ o_ = some 0) (hd : eX1_fault τ o_ = some out_) (hsz : ls.size = nL) (hrm : (rest.map fun v => v.category).sum ≤ 8) (hR : 1 ≤ R.frames ∧ 20 ≤ R.locals) (hcs : cells ≤ R.cells ∧ slots ≤ R.slots) (hlk : Cond.methodLink own index yX1_fault ∈ lw_all) (hdg : decode cc pc = .ok (.invokevirtual index, 3)) (kk : ∀ (H1 : Heap) (locs1 : List Loc), Hw G A τ H1 → va_S A s.heap H1 locs1 → W p l e R s m args below meth c H1 locs1 cells slots Q (F0 m (pc + 3) ls (.int out_ :: rest))) : W p l e R s m args below meth c H locs cells slots Q (F0 m pc ls (.ref o_ :: rest)) := by
  refine va_calli (va_runV (As := []) (rest := rest) ⟨hx, hb, hml, hown, hts⟩ (wX1_fault l hd) (cwV 0 hts (lw_V hlk q570 q571 q66 q572) rfl rfl rfl (by decide +kernel) hR) (hr_preV hC hW hS hrc rfl rfl) rfl rfl hsz rfl (lv_room hrm) hdg hcs) hS (fun _ _ h => h) (fun _ h => h) (fun r u t H1 locs1 ht hvm hp hB hz hk hS1 => ?_)
  have hp : r = out_ := hp
  subst hp
  have hW1 : Hw G A τ t.heap := hB
  rw [ht] at hW1
  exact kk H1 locs1 hW1 hS1
noncomputable def eX1_image (τ : HP) (o_ : Nat) : Option (Int32 × HP) :=
  wt_bd (hgI τ o_ [0] 4) fun f1 => if f1 = (3 : Int32) then (some ((-1 : Int32), τ)) else (wt_bd (hgA τ o_ [0] 7) fun ad4 => wt_bd (hgI τ o_ [0] 4) fun f6 => wt_bd (hgA τ o_ [0] 1) fun ad8 => wt_ck (hcl τ ad8 = some 2) <| wt_bd (eX3_like τ ad8) fun w11 => wt_bd (haR w11.2 ad4 3) fun z13 => wt_ck (vp_in f6 z13.1) <| wt_bd (hcl w11.2 w11.1) fun c16 => wt_ck (c16 = 2) <| wt_lt (hst w11.2 ad4 (.inl (3, z13.1, .inr (.inr (.inr (.inr (va_up z13.2 f6.toNatClampNeg (some w11.1)))))))) fun τ19 => wt_bd (hgI τ19 o_ [0] 4) fun f20 => wt_bd (hp τ19 o_ [0] 4 (.int ((f20 + (1 : Int32))))) fun τ22 => wt_bd (hgI τ22 o_ [0] 4) fun f24 => some (f24, τ22))
set_option maxHeartbeats 4000000 in
theorem wX1_image (l : Launch) {G : HG} {A : Nat → Prop} {τ : HP} {o_ : Nat} {out_ : Int32 × HP} (hd : eX1_image τ o_ = some out_) : Met l yX1_image (ws_ yX1_image cX1_image 1 (some .int)) ({ frames := 8, cells := 30, slots := 800, locals := 185 }) (hPc G A τ [.ref o_]) (hQi G out_.1 out_.2 A) 30 800 A := by
  refine Met.ofW (cc := cX1_image) (maxL := 1) (ret := (some .int)) (by decide) rfl ?_
  intro p_ e_ s_ m_ args_ below_ meth_ c_ s₁_ B hml hv
  obtain ⟨rfl, hW, hC⟩ := hv
  have hx := B.exec
  have hb := B.bytes
  have hr := B.returns
  have hts := atoms_spec (ws := (ws_ yX1_image cX1_image 1 (some .int))) B.pre
  have hts : ∀ w ∈ lw_all, w.before _ s_ = true := fun w h => hts w (List.mem_cons_of_mem _ h)
  have hown : s_.vm.findClass RX1 = some m_.cls := findClass_of_methodNamed B.named
  have hlocks := B.notSynchronized
  have hK := hC.1
  have hT := hC.2.1
  have hL := hC.2.2.1
  have hZ := hC.2.2.2.2.1
  have hA := hC.2.2.2.2.2
  have hS : va_S A s_.heap s_.heap [] := va_S.rf
  have hl := lv_entry ([.ref o_]) (n := 1) (Nat.le_of_ble_eq_true rfl)
  rw [lg_entry_eq]
  generalize (lg_sl ([.ref o_]) ++ List.replicate (1 - (lg_sl ([.ref o_])).length) Slot.unset).toArray = ls at hl ⊢
  have hl : lv_has ls 1 [(0, .ref o_)] := hl
  unfold eX1_image at hd
  refine lv_aload_n (pc := 0) hx hb dX1_image_0 rfl (lv_at hl 0 rfl) ?_
  obtain ⟨f1, h2, hd⟩ := wt_bd_o hd
  refine hr_get (pc := 1) hx hb hts hown hK hW (hgI_o h2) hf_0_4 (fun _ h => h) q540 dX1_image_1 ?_
  refine lv_iconst (pc := 4) (v := 3) hx hb dX1_image_4 (by decide) ?_
  refine lv_icmp_ne (pc := 5) (tgt := 10) hx hb dX1_image_5 (by decide) (fun c3 => ?_) (fun c3 => ?_)
  · have hd := wt_if hd c3
    refine lv_aload_n (pc := 10) hx hb dX1_image_10 rfl (lv_at hl 0 rfl) ?_
    obtain ⟨ad4, h5, hd⟩ := wt_bd_o hd
    refine hr_get (pc := 11) hx hb hts hown hK hW (hgA_o h5) hf_0_7 (fun _ h => h) q543 dX1_image_11 ?_
    refine lv_aload_n (pc := 14) hx hb dX1_image_14 rfl (lv_at hl 0 rfl) ?_
    obtain ⟨f6, h7, hd⟩ := wt_bd_o hd
    refine hr_get (pc := 15) hx hb hts hown hK hW (hgI_o h7) hf_0_4 (fun _ h => h) q540 dX1_image_15 ?_
    refine lv_aload_n (pc := 18) hx hb dX1_image_18 rfl (lv_at hl 0 rfl) ?_
    obtain ⟨ad8, h9, hd⟩ := wt_bd_o hd
    refine hr_get (pc := 19) hx hb hts hown hK hW (hgA_o h9) hf_0_1 (fun _ h => h) q536 dX1_image_19 ?_
    obtain ⟨h10, hd⟩ := wt_ck_o hd
    obtain ⟨w11, hc12, hd⟩ := wt_bd_o hd
    refine kX3_like (pc := 22) hx hb hml hown hts hC hW hS h10 hc12 hl.1 (Nat.le_of_ble_eq_true rfl) ⟨Nat.le_of_ble_eq_true rfl, Nat.le_of_ble_eq_true rfl⟩ ⟨(Nat.le_of_ble_eq_true rfl), (Nat.le_of_ble_eq_true rfl)⟩ q577 dX1_image_22 (fun H locs hW hS => ?_)
    obtain ⟨z13, h14, hd⟩ := wt_bd_o hd
    obtain ⟨h15, hd⟩ := wt_ck_o hd
    obtain ⟨c16, h17, hd⟩ := wt_bd_o hd
    obtain ⟨h18, hd⟩ := wt_ck_o hd
    obtain ⟨τ19, eτ19, hd⟩ := wt_lt_o hd
    refine hr_aastS (pc := 25) hx hb hC hW hS h14 h15 h17 h18 eτ19 dX1_image_25 (fun H locs hW hS => ?_)
    refine lv_aload_n (pc := 26) hx hb dX1_image_26 rfl (lv_at hl 0 rfl) ?_
    refine lv_dup (pc := 27) hx hb dX1_image_27 rfl ?_
    obtain ⟨f20, h21, hd⟩ := wt_bd_o hd
    refine hr_get (pc := 28) hx hb hts hown hK hW (hgI_o h21) hf_0_4 (fun _ h => h) q540 dX1_image_28 ?_
    refine lv_iconst (pc := 31) (v := 1) hx hb dX1_image_31 (by decide) ?_
    refine lv_iadd (pc := 32) hx hb dX1_image_32 ?_
    obtain ⟨τ22, h23, hd⟩ := wt_bd_o hd
    refine hr_put (pc := 33) (ty := .int) hx hb hts hown hK hW hS h23 hf_0_4 (by decide +kernel) rfl rfl (fun _ h => h) q540 dX1_image_33 (fun H locs hW hS => ?_)
    refine lv_aload_n (pc := 36) hx hb dX1_image_36 rfl (lv_at hl 0 rfl) ?_
    obtain ⟨f24, h25, hd⟩ := wt_bd_o hd
    refine hr_get (pc := 37) hx hb hts hown hK hW (hgI_o h25) hf_0_4 (fun _ h => h) q540 dX1_image_37 ?_
    exact hr_iret hx hb hr rfl hlocks (wt_p1 hd) (wt_p2 hd) hW hS dX1_image_40 (Nat.le_of_ble_eq_true rfl) (Nat.le_of_ble_eq_true rfl)
  · have hd := wt_it hd c3
    refine lv_iconst (pc := 8) (v := -1) hx hb dX1_image_8 (by decide) ?_
    exact hr_iret hx hb hr rfl hlocks (wt_p1 hd) (wt_p2 hd) hW hS dX1_image_9 (Nat.le_of_ble_eq_true rfl) (Nat.le_of_ble_eq_true rfl)
theorem kX1_image {p : Program} {l : Launch} {e : Env} {R : Room} {s : State} {m : MethodId} {args : Array Value} {below : List Frame} {meth : Method} {c : Code} {H : Heap} {locs : List Loc} {cells slots : Nat} {Q : State → Prop} {cc : ByteArray} {pc : Nat} {ls : Array Slot} {rest : List Value} {nL : Nat} {own : String} {index : Nat} {G : HG} {A : Nat → Prop} {τ : HP} {o_ : Nat} {out_ : Int32 × HP} (hx : p.tables.exec = Jvm.exec) (hb : c.code = cc) (hml : c.maxLocals = nL) (hown : s.vm.findClass own = some m.cls) (hts : ∀ w ∈ lw_all, w.before args s = true) (hC : Hcx G A s) (hW : Hw G A τ H) (hS : va_S A s.heap H locs) (hrc : hcl τ o_ = some 0) (hd : eX1_image τ o_ = some out_) (hsz : ls.size = nL) (hrm : (rest.map fun v => v.category).sum ≤ 8) (hR : 9 ≤ R.frames ∧ 205 ≤ R.locals) (hcs : (cells + 30) ≤ R.cells ∧ (slots + 800) ≤ R.slots) (hlk : Cond.methodLink own index yX1_image ∈ lw_all) (hdg : decode cc pc = .ok (.invokevirtual index, 3)) (kk : ∀ (H1 : Heap) (locs1 : List Loc), Hw G A out_.2 H1 → va_S A s.heap H1 locs1 → W p l e R s m args below meth c H1 locs1 (cells + 30) (slots + 800) Q (F0 m (pc + 3) ls (.int out_.1 :: rest))) : W p l e R s m args below meth c H locs cells slots Q (F0 m pc ls (.ref o_ :: rest)) := by
  refine va_calli (va_runV (As := []) (rest := rest) ⟨hx, hb, hml, hown, hts⟩ (wX1_image l hd) (cwV 0 hts (lw_V hlk q574 q575 q66 q576) rfl rfl rfl (by decide +kernel) hR) (hr_preV hC hW hS hrc rfl rfl) rfl rfl hsz rfl (lv_room hrm) hdg hcs) hS (fun _ _ h => h) (fun _ h => h) (fun r u t H1 locs1 ht hvm hp hB hz hk hS1 => ?_)
  have hp : r = out_.1 := hp
  subst hp
  have hW1 : Hw G A out_.2 t.heap := hB
  rw [ht] at hW1
  exact kk H1 locs1 hW1 hS1
noncomputable def eX1_restore (τ : HP) (o_ : Nat) : Option (Int32 × HP) :=
  wt_bd (hgI τ o_ [0] 4) fun f1 => if f1 = 0 then (some ((-1 : Int32), τ)) else (wt_bd (hgI τ o_ [0] 4) fun f4 => wt_bd (hp τ o_ [0] 4 (.int ((f4 - (1 : Int32))))) fun τ6 => wt_bd (hgA τ6 o_ [0] 7) fun ad8 => wt_bd (hgI τ6 o_ [0] 4) fun f10 => wt_bd (haR τ6 ad8 3) fun z12 => wt_ck (vp_in f10 z12.1) <| wt_bd ((z12.2 f10.toNatClampNeg)) fun ad15 => wt_bd (hp τ6 o_ [0] 1 (.ref ad15)) fun τ17 => wt_bd (hgA τ17 o_ [0] 7) fun ad19 => wt_bd (hgI τ17 o_ [0] 4) fun f21 => wt_bd (haR τ17 ad19 3) fun z23 => wt_ck (vp_in f21 z23.1) <| wt_lt (hst τ17 ad19 (.inl (3, z23.1, .inr (.inr (.inr (.inr (va_up z23.2 f21.toNatClampNeg none))))))) fun τ26 => wt_bd (hgI τ26 o_ [0] 4) fun f27 => some (f27, τ26))
set_option maxHeartbeats 4000000 in
theorem wX1_restore (l : Launch) {G : HG} {A : Nat → Prop} {τ : HP} {o_ : Nat} {out_ : Int32 × HP} (hd : eX1_restore τ o_ = some out_) : Met l yX1_restore (ws_ yX1_restore cX1_restore 1 (some .int)) ({ frames := 0, cells := 0, slots := 0, locals := 0 }) (hPc G A τ [.ref o_]) (hQi G out_.1 out_.2 A) 0 0 A := by
  refine Met.ofW (cc := cX1_restore) (maxL := 1) (ret := (some .int)) (by decide) rfl ?_
  intro p_ e_ s_ m_ args_ below_ meth_ c_ s₁_ B hml hv
  obtain ⟨rfl, hW, hC⟩ := hv
  have hx := B.exec
  have hb := B.bytes
  have hr := B.returns
  have hts := atoms_spec (ws := (ws_ yX1_restore cX1_restore 1 (some .int))) B.pre
  have hts : ∀ w ∈ lw_all, w.before _ s_ = true := fun w h => hts w (List.mem_cons_of_mem _ h)
  have hown : s_.vm.findClass RX1 = some m_.cls := findClass_of_methodNamed B.named
  have hlocks := B.notSynchronized
  have hK := hC.1
  have hT := hC.2.1
  have hL := hC.2.2.1
  have hZ := hC.2.2.2.2.1
  have hA := hC.2.2.2.2.2
  have hS : va_S A s_.heap s_.heap [] := va_S.rf
  have hl := lv_entry ([.ref o_]) (n := 1) (Nat.le_of_ble_eq_true rfl)
  rw [lg_entry_eq]
  generalize (lg_sl ([.ref o_]) ++ List.replicate (1 - (lg_sl ([.ref o_])).length) Slot.unset).toArray = ls at hl ⊢
  have hl : lv_has ls 1 [(0, .ref o_)] := hl
  unfold eX1_restore at hd
  refine lv_aload_n (pc := 0) hx hb dX1_restore_0 rfl (lv_at hl 0 rfl) ?_
  obtain ⟨f1, h2, hd⟩ := wt_bd_o hd
  refine hr_get (pc := 1) hx hb hts hown hK hW (hgI_o h2) hf_0_4 (fun _ h => h) q540 dX1_restore_1 ?_
  refine lv_if_ne (pc := 4) (tgt := 9) hx hb dX1_restore_4 (by decide) (fun c3 => ?_) (fun c3 => ?_)
  · have hd := wt_if hd c3
    refine lv_aload_n (pc := 9) hx hb dX1_restore_9 rfl (lv_at hl 0 rfl) ?_
    refine lv_dup (pc := 10) hx hb dX1_restore_10 rfl ?_
    obtain ⟨f4, h5, hd⟩ := wt_bd_o hd
    refine hr_get (pc := 11) hx hb hts hown hK hW (hgI_o h5) hf_0_4 (fun _ h => h) q540 dX1_restore_11 ?_
    refine lv_iconst (pc := 14) (v := 1) hx hb dX1_restore_14 (by decide) ?_
    refine lv_isub (pc := 15) hx hb dX1_restore_15 ?_
    obtain ⟨τ6, h7, hd⟩ := wt_bd_o hd
    refine hr_put (pc := 16) (ty := .int) hx hb hts hown hK hW hS h7 hf_0_4 (by decide +kernel) rfl rfl (fun _ h => h) q540 dX1_restore_16 (fun H locs hW hS => ?_)
    refine lv_aload_n (pc := 19) hx hb dX1_restore_19 rfl (lv_at hl 0 rfl) ?_
    refine lv_aload_n (pc := 20) hx hb dX1_restore_20 rfl (lv_at hl 0 rfl) ?_
    obtain ⟨ad8, h9, hd⟩ := wt_bd_o hd
    refine hr_get (pc := 21) hx hb hts hown hK hW (hgA_o h9) hf_0_7 (fun _ h => h) q543 dX1_restore_21 ?_
    refine lv_aload_n (pc := 24) hx hb dX1_restore_24 rfl (lv_at hl 0 rfl) ?_
    obtain ⟨f10, h11, hd⟩ := wt_bd_o hd
    refine hr_get (pc := 25) hx hb hts hown hK hW (hgI_o h11) hf_0_4 (fun _ h => h) q540 dX1_restore_25 ?_
    obtain ⟨z12, h13, hd⟩ := wt_bd_o hd
    obtain ⟨h14, hd⟩ := wt_ck_o hd
    refine hr_aald (pc := 28) (t := 3) hx hb hK hW h13 rfl h14 dX1_restore_28 ?_
    obtain ⟨ad15, h16, hd⟩ := wt_bd_o hd
    refine lv_rfe h16 ?_
    obtain ⟨τ17, h18, hd⟩ := wt_bd_o hd
    refine hr_put (pc := 29) (ty := (.object "WoolThreads$State")) hx hb hts hown hK hW hS h18 hf_0_1 (by decide +kernel) rfl rfl (fun _ h => h) q536 dX1_restore_29 (fun H locs hW hS => ?_)
    refine lv_aload_n (pc := 32) hx hb dX1_restore_32 rfl (lv_at hl 0 rfl) ?_
    obtain ⟨ad19, h20, hd⟩ := wt_bd_o hd
    refine hr_get (pc := 33) hx hb hts hown hK hW (hgA_o h20) hf_0_7 (fun _ h => h) q543 dX1_restore_33 ?_
    refine lv_aload_n (pc := 36) hx hb dX1_restore_36 rfl (lv_at hl 0 rfl) ?_
    obtain ⟨f21, h22, hd⟩ := wt_bd_o hd
    refine hr_get (pc := 37) hx hb hts hown hK hW (hgI_o h22) hf_0_4 (fun _ h => h) q540 dX1_restore_37 ?_
    refine lv_null (pc := 40) hx hb dX1_restore_40 ?_
    obtain ⟨z23, h24, hd⟩ := wt_bd_o hd
    obtain ⟨h25, hd⟩ := wt_ck_o hd
    obtain ⟨τ26, eτ26, hd⟩ := wt_lt_o hd
    refine hr_aastN (pc := 41) (t := 3) hx hb hK hW hS h24 rfl (by decide) h25 eτ26 dX1_restore_41 (fun H locs hW hS => ?_)
    refine lv_aload_n (pc := 42) hx hb dX1_restore_42 rfl (lv_at hl 0 rfl) ?_
    obtain ⟨f27, h28, hd⟩ := wt_bd_o hd
    refine hr_get (pc := 43) hx hb hts hown hK hW (hgI_o h28) hf_0_4 (fun _ h => h) q540 dX1_restore_43 ?_
    exact hr_iret hx hb hr rfl hlocks (wt_p1 hd) (wt_p2 hd) hW hS dX1_restore_46 (Nat.le_of_ble_eq_true rfl) (Nat.le_of_ble_eq_true rfl)
  · have hd := wt_it hd c3
    refine lv_iconst (pc := 7) (v := -1) hx hb dX1_restore_7 (by decide) ?_
    exact hr_iret hx hb hr rfl hlocks (wt_p1 hd) (wt_p2 hd) hW hS dX1_restore_8 (Nat.le_of_ble_eq_true rfl) (Nat.le_of_ble_eq_true rfl)
theorem kX1_restore {p : Program} {l : Launch} {e : Env} {R : Room} {s : State} {m : MethodId} {args : Array Value} {below : List Frame} {meth : Method} {c : Code} {H : Heap} {locs : List Loc} {cells slots : Nat} {Q : State → Prop} {cc : ByteArray} {pc : Nat} {ls : Array Slot} {rest : List Value} {nL : Nat} {own : String} {index : Nat} {G : HG} {A : Nat → Prop} {τ : HP} {o_ : Nat} {out_ : Int32 × HP} (hx : p.tables.exec = Jvm.exec) (hb : c.code = cc) (hml : c.maxLocals = nL) (hown : s.vm.findClass own = some m.cls) (hts : ∀ w ∈ lw_all, w.before args s = true) (hC : Hcx G A s) (hW : Hw G A τ H) (hS : va_S A s.heap H locs) (hrc : hcl τ o_ = some 0) (hd : eX1_restore τ o_ = some out_) (hsz : ls.size = nL) (hrm : (rest.map fun v => v.category).sum ≤ 8) (hR : 1 ≤ R.frames ∧ 20 ≤ R.locals) (hcs : cells ≤ R.cells ∧ slots ≤ R.slots) (hlk : Cond.methodLink own index yX1_restore ∈ lw_all) (hdg : decode cc pc = .ok (.invokevirtual index, 3)) (kk : ∀ (H1 : Heap) (locs1 : List Loc), Hw G A out_.2 H1 → va_S A s.heap H1 locs1 → W p l e R s m args below meth c H1 locs1 cells slots Q (F0 m (pc + 3) ls (.int out_.1 :: rest))) : W p l e R s m args below meth c H locs cells slots Q (F0 m pc ls (.ref o_ :: rest)) := by
  refine va_calli (va_runV (As := []) (rest := rest) ⟨hx, hb, hml, hown, hts⟩ (wX1_restore l hd) (cwV 0 hts (lw_V hlk q659 q660 q66 q661) rfl rfl rfl (by decide +kernel) hR) (hr_preV hC hW hS hrc rfl rfl) rfl rfl hsz rfl (lv_room hrm) hdg hcs) hS (fun _ _ h => h) (fun _ h => h) (fun r u t H1 locs1 ht hvm hp hB hz hk hS1 => ?_)
  have hp : r = out_.1 := hp
  subst hp
  have hW1 : Hw G A out_.2 t.heap := hB
  rw [ht] at hW1
  exact kk H1 locs1 hW1 hS1
noncomputable def eX1_count (τ : HP) (o_ : Nat) (a0 : Int32) : Option (Int32) :=
  if a0 = (0 : Int32) then (wt_bd (hgA τ o_ [0] 0) fun ad2 => wt_bd (hgI τ ad2 [1] 7) fun f4 => some f4) else (if a0 = (1 : Int32) then (wt_bd (hgA τ o_ [0] 6) fun ad7 => wt_ck (hcl τ ad7 = some 13) <| wt_bd (eJ2_size τ ad7) fun w10 => some w10) else (if a0 = (2 : Int32) then (wt_bd (hgA τ o_ [0] 1) fun ad13 => wt_bd (hgA τ ad13 [2] 0) fun ad15 => wt_ck (hcl τ ad15 = some 13) <| wt_bd (eJ2_size τ ad15) fun w18 => some w18) else (if a0 = (3 : Int32) then (wt_bd (hgA τ o_ [0] 1) fun ad21 => wt_bd (hgI τ ad21 [2] 3) fun f23 => some f23) else (if a0 = (4 : Int32) then (wt_bd (hgA τ o_ [0] 1) fun ad26 => wt_bd (hgA τ ad26 [2] 1) fun ad28 => wt_ck (hcl τ ad28 = some 13) <| wt_bd (eJ2_size τ ad28) fun w31 => some w31) else (if a0 = (5 : Int32) then (wt_bd (hgI τ o_ [0] 4) fun f34 => some f34) else (if a0 = (6 : Int32) then (wt_bd (hgI τ o_ [0] 2) fun f37 => some f37) else (some (-1 : Int32))))))))
set_option maxHeartbeats 4000000 in
theorem wX1_count (l : Launch) {G : HG} {A : Nat → Prop} {τ : HP} {o_ : Nat} {a0 : Int32} {out_ : Int32} (hd : eX1_count τ o_ a0 = some out_) : Met l yX1_count (ws_ yX1_count cX1_count 2 (some .int)) ({ frames := 1, cells := 0, slots := 0, locals := 20 }) (hPc G A τ [.ref o_, .int a0]) (hQi G out_ τ A) 0 0 A := by
  refine Met.ofW (cc := cX1_count) (maxL := 2) (ret := (some .int)) (by decide) rfl ?_
  intro p_ e_ s_ m_ args_ below_ meth_ c_ s₁_ B hml hv
  obtain ⟨rfl, hW, hC⟩ := hv
  have hx := B.exec
  have hb := B.bytes
  have hr := B.returns
  have hts := atoms_spec (ws := (ws_ yX1_count cX1_count 2 (some .int))) B.pre
  have hts : ∀ w ∈ lw_all, w.before _ s_ = true := fun w h => hts w (List.mem_cons_of_mem _ h)
  have hown : s_.vm.findClass RX1 = some m_.cls := findClass_of_methodNamed B.named
  have hlocks := B.notSynchronized
  have hK := hC.1
  have hT := hC.2.1
  have hL := hC.2.2.1
  have hZ := hC.2.2.2.2.1
  have hA := hC.2.2.2.2.2
  have hS : va_S A s_.heap s_.heap [] := va_S.rf
  have hl := lv_entry ([.ref o_, .int a0]) (n := 2) (Nat.le_of_ble_eq_true rfl)
  rw [lg_entry_eq]
  generalize (lg_sl ([.ref o_, .int a0]) ++ List.replicate (2 - (lg_sl ([.ref o_, .int a0])).length) Slot.unset).toArray = ls at hl ⊢
  have hl : lv_has ls 2 [(0, .ref o_), (1, .int a0)] := hl
  unfold eX1_count at hd
  refine lv_iload_n (pc := 0) hx hb dX1_count_0 rfl (lv_at hl 1 rfl) ?_
  by_cases c1 : a0 = (0 : Int32)
  · have hd := wt_it hd c1
    refine lv_tableIn (pc := 1) (tgt := 44) (off := 43) hx hb dX1_count_1 (by rw [c1]; decide) (by rw [c1]; decide) (by rw [c1]; rfl) (by decide) ?_
    refine lv_aload_n (pc := 44) hx hb dX1_count_44 rfl (lv_at hl 0 rfl) ?_
    obtain ⟨ad2, h3, hd⟩ := wt_bd_o hd
    refine hr_get (pc := 45) hx hb hts hown hK hW (hgA_o h3) hf_0_0 (fun _ h => h) q534 dX1_count_45 ?_
    obtain ⟨f4, h5, hd⟩ := wt_bd_o hd
    refine hr_getN (pc := 48) hx hb hts hown hK hT hW (hgI_o h5) hf_1_7 (fun _ h => h) q144 dX1_count_48 ?_
    exact hr_iret hx hb hr rfl hlocks (Option.some.inj hd) rfl hW hS dX1_count_51 (Nat.le_of_ble_eq_true rfl) (Nat.le_of_ble_eq_true rfl)
  have hd := wt_if hd c1
  by_cases c6 : a0 = (1 : Int32)
  · have hd := wt_it hd c6
    refine lv_tableIn (pc := 1) (tgt := 52) (off := 51) hx hb dX1_count_1 (by rw [c6]; decide) (by rw [c6]; decide) (by rw [c6]; rfl) (by decide) ?_
    refine lv_aload_n (pc := 52) hx hb dX1_count_52 rfl (lv_at hl 0 rfl) ?_
    obtain ⟨ad7, h8, hd⟩ := wt_bd_o hd
    refine hr_get (pc := 53) hx hb hts hown hK hW (hgA_o h8) hf_0_6 (fun _ h => h) q542 dX1_count_53 ?_
    obtain ⟨h9, hd⟩ := wt_ck_o hd
    obtain ⟨w10, hc11, hd⟩ := wt_bd_o hd
    refine kJ2_size (pc := 56) hx hb hml hown hts hC hW hS h9 hc11 hl.1 (Nat.le_of_ble_eq_true rfl) ⟨Nat.le_of_ble_eq_true rfl, Nat.le_of_ble_eq_true rfl⟩ ⟨Nat.le_of_ble_eq_true rfl, Nat.le_of_ble_eq_true rfl⟩ q666 dX1_count_56 (fun H locs hW hS => ?_)
    exact hr_iret hx hb hr rfl hlocks (Option.some.inj hd) rfl hW hS dX1_count_59 (Nat.le_of_ble_eq_true rfl) (Nat.le_of_ble_eq_true rfl)
  have hd := wt_if hd c6
  by_cases c12 : a0 = (2 : Int32)
  · have hd := wt_it hd c12
    refine lv_tableIn (pc := 1) (tgt := 60) (off := 59) hx hb dX1_count_1 (by rw [c12]; decide) (by rw [c12]; decide) (by rw [c12]; rfl) (by decide) ?_
    refine lv_aload_n (pc := 60) hx hb dX1_count_60 rfl (lv_at hl 0 rfl) ?_
    obtain ⟨ad13, h14, hd⟩ := wt_bd_o hd
    refine hr_get (pc := 61) hx hb hts hown hK hW (hgA_o h14) hf_0_1 (fun _ h => h) q536 dX1_count_61 ?_
    obtain ⟨ad15, h16, hd⟩ := wt_bd_o hd
    refine hr_getN (pc := 64) hx hb hts hown hK hT hW (hgA_o h16) hf_2_0 (fun _ h => h) q515 dX1_count_64 ?_
    obtain ⟨h17, hd⟩ := wt_ck_o hd
    obtain ⟨w18, hc19, hd⟩ := wt_bd_o hd
    refine kJ2_size (pc := 67) hx hb hml hown hts hC hW hS h17 hc19 hl.1 (Nat.le_of_ble_eq_true rfl) ⟨Nat.le_of_ble_eq_true rfl, Nat.le_of_ble_eq_true rfl⟩ ⟨Nat.le_of_ble_eq_true rfl, Nat.le_of_ble_eq_true rfl⟩ q666 dX1_count_67 (fun H locs hW hS => ?_)
    exact hr_iret hx hb hr rfl hlocks (Option.some.inj hd) rfl hW hS dX1_count_70 (Nat.le_of_ble_eq_true rfl) (Nat.le_of_ble_eq_true rfl)
  have hd := wt_if hd c12
  by_cases c20 : a0 = (3 : Int32)
  · have hd := wt_it hd c20
    refine lv_tableIn (pc := 1) (tgt := 71) (off := 70) hx hb dX1_count_1 (by rw [c20]; decide) (by rw [c20]; decide) (by rw [c20]; rfl) (by decide) ?_
    refine lv_aload_n (pc := 71) hx hb dX1_count_71 rfl (lv_at hl 0 rfl) ?_
    obtain ⟨ad21, h22, hd⟩ := wt_bd_o hd
    refine hr_get (pc := 72) hx hb hts hown hK hW (hgA_o h22) hf_0_1 (fun _ h => h) q536 dX1_count_72 ?_
    obtain ⟨f23, h24, hd⟩ := wt_bd_o hd
    refine hr_getN (pc := 75) hx hb hts hown hK hT hW (hgI_o h24) hf_2_3 (fun _ h => h) q521 dX1_count_75 ?_
    exact hr_iret hx hb hr rfl hlocks (Option.some.inj hd) rfl hW hS dX1_count_78 (Nat.le_of_ble_eq_true rfl) (Nat.le_of_ble_eq_true rfl)
  have hd := wt_if hd c20
  by_cases c25 : a0 = (4 : Int32)
  · have hd := wt_it hd c25
    refine lv_tableIn (pc := 1) (tgt := 79) (off := 78) hx hb dX1_count_1 (by rw [c25]; decide) (by rw [c25]; decide) (by rw [c25]; rfl) (by decide) ?_
    refine lv_aload_n (pc := 79) hx hb dX1_count_79 rfl (lv_at hl 0 rfl) ?_
    obtain ⟨ad26, h27, hd⟩ := wt_bd_o hd
    refine hr_get (pc := 80) hx hb hts hown hK hW (hgA_o h27) hf_0_1 (fun _ h => h) q536 dX1_count_80 ?_
    obtain ⟨ad28, h29, hd⟩ := wt_bd_o hd
    refine hr_getN (pc := 83) hx hb hts hown hK hT hW (hgA_o h29) hf_2_1 (fun _ h => h) q517 dX1_count_83 ?_
    obtain ⟨h30, hd⟩ := wt_ck_o hd
    obtain ⟨w31, hc32, hd⟩ := wt_bd_o hd
    refine kJ2_size (pc := 86) hx hb hml hown hts hC hW hS h30 hc32 hl.1 (Nat.le_of_ble_eq_true rfl) ⟨Nat.le_of_ble_eq_true rfl, Nat.le_of_ble_eq_true rfl⟩ ⟨Nat.le_of_ble_eq_true rfl, Nat.le_of_ble_eq_true rfl⟩ q666 dX1_count_86 (fun H locs hW hS => ?_)
    exact hr_iret hx hb hr rfl hlocks (Option.some.inj hd) rfl hW hS dX1_count_89 (Nat.le_of_ble_eq_true rfl) (Nat.le_of_ble_eq_true rfl)
  have hd := wt_if hd c25
  by_cases c33 : a0 = (5 : Int32)
  · have hd := wt_it hd c33
    refine lv_tableIn (pc := 1) (tgt := 90) (off := 89) hx hb dX1_count_1 (by rw [c33]; decide) (by rw [c33]; decide) (by rw [c33]; rfl) (by decide) ?_
    refine lv_aload_n (pc := 90) hx hb dX1_count_90 rfl (lv_at hl 0 rfl) ?_
    obtain ⟨f34, h35, hd⟩ := wt_bd_o hd
    refine hr_get (pc := 91) hx hb hts hown hK hW (hgI_o h35) hf_0_4 (fun _ h => h) q540 dX1_count_91 ?_
    exact hr_iret hx hb hr rfl hlocks (Option.some.inj hd) rfl hW hS dX1_count_94 (Nat.le_of_ble_eq_true rfl) (Nat.le_of_ble_eq_true rfl)
  have hd := wt_if hd c33
  by_cases c36 : a0 = (6 : Int32)
  · have hd := wt_it hd c36
    refine lv_tableIn (pc := 1) (tgt := 95) (off := 94) hx hb dX1_count_1 (by rw [c36]; decide) (by rw [c36]; decide) (by rw [c36]; rfl) (by decide) ?_
    refine lv_aload_n (pc := 95) hx hb dX1_count_95 rfl (lv_at hl 0 rfl) ?_
    obtain ⟨f37, h38, hd⟩ := wt_bd_o hd
    refine hr_get (pc := 96) hx hb hts hown hK hW (hgI_o h38) hf_0_2 (fun _ h => h) q538 dX1_count_96 ?_
    exact hr_iret hx hb hr rfl hlocks (Option.some.inj hd) rfl hW hS dX1_count_99 (Nat.le_of_ble_eq_true rfl) (Nat.le_of_ble_eq_true rfl)
  have hd := wt_if hd c36
  have ec1 : ¬ (a0).toInt = 0 := fun h => c1 (wt_i32 h (by decide))
  have ec6 : ¬ (a0).toInt = 1 := fun h => c6 (wt_i32 h (by decide))
  have ec12 : ¬ (a0).toInt = 2 := fun h => c12 (wt_i32 h (by decide))
  have ec20 : ¬ (a0).toInt = 3 := fun h => c20 (wt_i32 h (by decide))
  have ec25 : ¬ (a0).toInt = 4 := fun h => c25 (wt_i32 h (by decide))
  have ec33 : ¬ (a0).toInt = 5 := fun h => c33 (wt_i32 h (by decide))
  have ec36 : ¬ (a0).toInt = 6 := fun h => c36 (wt_i32 h (by decide))
  refine lv_tableOut (pc := 1) (tgt := 100) hx hb dX1_count_1 (by omega) (by decide) ?_
  refine lv_iconst (pc := 100) (v := -1) hx hb dX1_count_100 (by decide) ?_
  exact hr_iret hx hb hr rfl hlocks (Option.some.inj hd) rfl hW hS dX1_count_101 (Nat.le_of_ble_eq_true rfl) (Nat.le_of_ble_eq_true rfl)
theorem kX1_count {p : Program} {l : Launch} {e : Env} {R : Room} {s : State} {m : MethodId} {args : Array Value} {below : List Frame} {meth : Method} {c : Code} {H : Heap} {locs : List Loc} {cells slots : Nat} {Q : State → Prop} {cc : ByteArray} {pc : Nat} {ls : Array Slot} {rest : List Value} {nL : Nat} {own : String} {index : Nat} {G : HG} {A : Nat → Prop} {τ : HP} {o_ : Nat} {a0 : Int32} {out_ : Int32} (hx : p.tables.exec = Jvm.exec) (hb : c.code = cc) (hml : c.maxLocals = nL) (hown : s.vm.findClass own = some m.cls) (hts : ∀ w ∈ lw_all, w.before args s = true) (hC : Hcx G A s) (hW : Hw G A τ H) (hS : va_S A s.heap H locs) (hrc : hcl τ o_ = some 0) (hd : eX1_count τ o_ a0 = some out_) (hsz : ls.size = nL) (hrm : (rest.map fun v => v.category).sum ≤ 8) (hR : 2 ≤ R.frames ∧ 41 ≤ R.locals) (hcs : cells ≤ R.cells ∧ slots ≤ R.slots) (hlk : Cond.methodLink own index yX1_count ∈ lw_all) (hdg : decode cc pc = .ok (.invokevirtual index, 3)) (kk : ∀ (H1 : Heap) (locs1 : List Loc), Hw G A τ H1 → va_S A s.heap H1 locs1 → W p l e R s m args below meth c H1 locs1 cells slots Q (F0 m (pc + 3) ls (.int out_ :: rest))) : W p l e R s m args below meth c H locs cells slots Q (F0 m pc ls (.int a0 :: .ref o_ :: rest)) := by
  refine va_calli (va_runV (As := [.int a0]) (rest := rest) ⟨hx, hb, hml, hown, hts⟩ (wX1_count l hd) (cwV 1 hts (lw_V hlk q663 q664 q66 q665) rfl rfl rfl (by decide +kernel) hR) (hr_preV hC hW hS hrc rfl rfl) rfl rfl hsz rfl (lv_room hrm) hdg hcs) hS (fun _ _ h => h) (fun _ h => h) (fun r u t H1 locs1 ht hvm hp hB hz hk hS1 => ?_)
  have hp : r = out_ := hp
  subst hp
  have hW1 : Hw G A τ t.heap := hB
  rw [ht] at hW1
  exact kk H1 locs1 hW1 hS1
noncomputable def eX1_need (τ : HP) (a0 : Int32) : Option ((Unit) ⊕ (Nat × Nat × HP)) :=
  if a0 = 0 then (some (.inr (100, 0, τ))) else (some (.inl ()))
set_option maxHeartbeats 4000000 in
theorem wX1_need (l : Launch) (hfl : l.stackTraces = false) {G : HG} {A : Nat → Prop} {τ : HP} {a0 : Int32} {out_ : (Unit) ⊕ (Nat × Nat × HP)} (hd : eX1_need τ a0 = some out_) : vx_Met l yX1_need (ws_ yX1_need cX1_need 1 none) ({ frames := 6, cells := 1, slots := 6, locals := 110 }) (hPc G A τ [.int a0]) (hXv G A (fun u => Sum.inl () = out_ ∧ u = τ)) (hXX G A out_) 1 6 A := by
  refine vx_ofW (cc := cX1_need) (maxL := 1) (ret := none) (by decide) rfl ?_
  intro p_ e_ s_ m_ args_ below_ meth_ c_ s₁_ B hml hno hv
  obtain ⟨rfl, hW, hC⟩ := hv
  have hx := B.exec
  have hb := B.bytes
  have hr := B.returns
  have hts := atoms_spec (ws := (ws_ yX1_need cX1_need 1 none)) B.pre
  have hts : ∀ w ∈ lw_all, w.before _ s_ = true := fun w h => hts w (List.mem_cons_of_mem _ h)
  have hown : s_.vm.findClass RX1 = some m_.cls := findClass_of_methodNamed B.named
  have hlocks := B.notSynchronized
  have hK := hC.1
  have hT := hC.2.1
  have hL := hC.2.2.1
  have hZ := hC.2.2.2.2.1
  have hA := hC.2.2.2.2.2
  have hS : va_S A s_.heap s_.heap [] := va_S.rf
  have hl := lv_entry ([.int a0]) (n := 1) (Nat.le_of_ble_eq_true rfl)
  rw [lg_entry_eq]
  generalize (lg_sl ([.int a0]) ++ List.replicate (1 - (lg_sl ([.int a0])).length) Slot.unset).toArray = ls at hl ⊢
  have hl : lv_has ls 1 [(0, .int a0)] := hl
  unfold eX1_need at hd
  refine lv_iload_n (pc := 0) hx hb dX1_need_0 rfl (lv_at hl 0 rfl) ?_
  refine lv_if_ne (pc := 1) (tgt := 12) hx hb dX1_need_1 (by decide) (fun c1 => ?_) (fun c1 => ?_)
  · have hd := wt_if hd c1
    refine vx_ret ?_
    exact hx_vret hx hb hr hlocks ⟨(Option.some.inj hd), rfl⟩ hW hS dX1_need_12 (Nat.le_of_ble_eq_true rfl) (Nat.le_of_ble_eq_true rfl)
  · have hd := wt_it hd c1
    exact hx_throw_iae_X1 (pc := 4) hx hb hfl hts hown hC hW hS (hl.1.trans hml.symm) hlocks hno (Option.some.inj hd) dX1_need_4 dX1_need_7 dX1_need_8 dX1_need_11 (Nat.le_of_ble_eq_true rfl) (Nat.le_of_ble_eq_true rfl) ⟨Nat.le_of_ble_eq_true rfl, Nat.le_of_ble_eq_true rfl⟩ (Nat.le_of_ble_eq_true rfl) (Nat.le_of_ble_eq_true rfl)
theorem kX1_need {p : Program} {l : Launch} {e : Env} {R : Room} {s : State} {m : MethodId} {args : Array Value} {below : List Frame} {meth : Method} {c : Code} {H : Heap} {locs : List Loc} {cells slots : Nat} {Q : State → Prop} {cc : ByteArray} {pc : Nat} {ls : Array Slot} {rest : List Value} {nL : Nat} {own : String} {index : Nat} {G : HG} {A : Nat → Prop} {τ : HP} {a0 : Int32} {out_ : (Unit) ⊕ (Nat × Nat × HP)} (hfl : l.stackTraces = false) (hx : p.tables.exec = Jvm.exec) (hb : c.code = cc) (hml : c.maxLocals = nL) (hown : s.vm.findClass own = some m.cls) (hts : ∀ w ∈ lw_all, w.before args s = true) (hC : Hcx G A s) (hW : Hw G A τ H) (hS : va_S A s.heap H locs) (hd : eX1_need τ a0 = some out_) (hsz : ls.size = nL) (hrm : (rest.map fun v => v.category).sum ≤ 8) (hR : 7 ≤ R.frames ∧ 130 ≤ R.locals) (hcs : (cells + 1) ≤ R.cells ∧ (slots + 6) ≤ R.slots) (hlk : Cond.methodLink own index yX1_need ∈ lw_all) (hdg : decode cc pc = .ok (.invokestatic index, 3)) (kx : ∀ x_ : Nat × Nat × HP, Sum.inr x_ = out_ → ∀ (E : String) (ce : Cell) (q9 : Addr) (H1 : Heap) (locs1 : List Loc), hXb G A E q9 x_ H1 → va_S A s.heap H1 locs1 → H1[q9]? = some ce → ce.vm = .none → s.vm.findClass E = some ce.cls → vx_W p l e R s m args below meth c H1 locs1 (cells + 1) (slots + 6) Q (F0 m pc ls rest) q9) (kk : ∀ o_1 : Unit, Sum.inl o_1 = out_ → ∀ (H1 : Heap) (locs1 : List Loc), Hw G A τ H1 → va_S A s.heap H1 locs1 → W p l e R s m args below meth c H1 locs1 (cells + 1) (slots + 6) Q (F0 m (pc + 3) ls (rest))) : W p l e R s m args below meth c H locs cells slots Q (F0 m pc ls (.int a0 :: rest)) := by
  refine vx_callv (vx_runS (As := [.int a0]) (rest := rest) ⟨hx, hb, hml, hown, hts⟩ (wX1_need l hfl hd) (va_cwS 1 hts (lw_S hlk q677 q66 q678) rfl rfl rfl (by decide +kernel) hR) (hr_preS hC hW hS) rfl rfl hsz rfl (lv_room hrm) hdg hcs) hS (fun _ _ h => h) (fun _ h => h) (fun _ _ h => h) (fun E ce q9 u t H1 locs1 ht hvm hp hB hz hk hS1 hce hvn hfc => ?_) (fun u t H1 locs1 ht hvm hp hB hz hk hS1 => ?_)
  · rw [ht] at hB
    exact kx u hp E ce q9 H1 locs1 hB hS1 hce hvn hfc
  · have hW1 : Hw G A u t.heap := hB
    rw [ht] at hW1
    obtain ⟨hp, rfl⟩ := hp
    exact kk () hp H1 locs1 hW1 hS1
noncomputable def eX1_isSort (a0 : Int32) : Option (Int32) :=
  if a0 < 0 then (some (0 : Int32)) else (if (10 : Int32) ≤ a0 then (some (0 : Int32)) else (some (1 : Int32)))
set_option maxHeartbeats 4000000 in
theorem wX1_isSort (l : Launch) {G : HG} {A : Nat → Prop} {τ : HP} {a0 : Int32} {out_ : Int32} (hd : eX1_isSort a0 = some out_) : Met l yX1_isSort (ws_ yX1_isSort cX1_isSort 1 (some .boolean)) ({ frames := 0, cells := 0, slots := 0, locals := 0 }) (hPc G A τ [.int a0]) (hQi G out_ τ A) 0 0 A := by
  refine Met.ofW (cc := cX1_isSort) (maxL := 1) (ret := (some .boolean)) (by decide) rfl ?_
  intro p_ e_ s_ m_ args_ below_ meth_ c_ s₁_ B hml hv
  obtain ⟨rfl, hW, hC⟩ := hv
  have hx := B.exec
  have hb := B.bytes
  have hr := B.returns
  have hts := atoms_spec (ws := (ws_ yX1_isSort cX1_isSort 1 (some .boolean))) B.pre
  have hts : ∀ w ∈ lw_all, w.before _ s_ = true := fun w h => hts w (List.mem_cons_of_mem _ h)
  have hown : s_.vm.findClass RX1 = some m_.cls := findClass_of_methodNamed B.named
  have hlocks := B.notSynchronized
  have hK := hC.1
  have hT := hC.2.1
  have hL := hC.2.2.1
  have hZ := hC.2.2.2.2.1
  have hA := hC.2.2.2.2.2
  have hS : va_S A s_.heap s_.heap [] := va_S.rf
  have hl := lv_entry ([.int a0]) (n := 1) (Nat.le_of_ble_eq_true rfl)
  rw [lg_entry_eq]
  generalize (lg_sl ([.int a0]) ++ List.replicate (1 - (lg_sl ([.int a0])).length) Slot.unset).toArray = ls at hl ⊢
  have hl : lv_has ls 1 [(0, .int a0)] := hl
  unfold eX1_isSort at hd
  refine lv_iload_n (pc := 0) hx hb dX1_isSort_0 rfl (lv_at hl 0 rfl) ?_
  refine lv_if_lt (pc := 1) (tgt := 14) hx hb dX1_isSort_1 (by decide) (fun c1 => ?_) (fun c1 => ?_)
  · have hd := wt_it hd c1
    refine lv_iconst (pc := 14) (v := 0) hx hb dX1_isSort_14 (by decide) ?_
    exact hr_iret hx hb hr rfl hlocks (Option.some.inj hd) rfl hW hS dX1_isSort_15 (Nat.le_of_ble_eq_true rfl) (Nat.le_of_ble_eq_true rfl)
  · have hd := wt_if hd c1
    refine lv_iload_n (pc := 4) hx hb dX1_isSort_4 rfl (lv_at hl 0 rfl) ?_
    refine lv_bipush (pc := 5) (v := 10) hx hb dX1_isSort_5 (by decide) ?_
    refine lv_icmp_ge (pc := 7) (tgt := 14) hx hb dX1_isSort_7 (by decide) (fun c2 => ?_) (fun c2 => ?_)
    · have hd := wt_it hd c2
      refine lv_iconst (pc := 14) (v := 0) hx hb dX1_isSort_14 (by decide) ?_
      exact hr_iret hx hb hr rfl hlocks (Option.some.inj hd) rfl hW hS dX1_isSort_15 (Nat.le_of_ble_eq_true rfl) (Nat.le_of_ble_eq_true rfl)
    · have hd := wt_if hd c2
      refine lv_iconst (pc := 10) (v := 1) hx hb dX1_isSort_10 (by decide) ?_
      refine lv_goto (pc := 11) (tgt := 15) hx hb dX1_isSort_11 (by decide) ?_
      exact hr_iret hx hb hr rfl hlocks (Option.some.inj hd) rfl hW hS dX1_isSort_15 (Nat.le_of_ble_eq_true rfl) (Nat.le_of_ble_eq_true rfl)
theorem kX1_isSort {p : Program} {l : Launch} {e : Env} {R : Room} {s : State} {m : MethodId} {args : Array Value} {below : List Frame} {meth : Method} {c : Code} {H : Heap} {locs : List Loc} {cells slots : Nat} {Q : State → Prop} {cc : ByteArray} {pc : Nat} {ls : Array Slot} {rest : List Value} {nL : Nat} {own : String} {index : Nat} {G : HG} {A : Nat → Prop} {τ : HP} {a0 : Int32} {out_ : Int32} (hx : p.tables.exec = Jvm.exec) (hb : c.code = cc) (hml : c.maxLocals = nL) (hown : s.vm.findClass own = some m.cls) (hts : ∀ w ∈ lw_all, w.before args s = true) (hC : Hcx G A s) (hW : Hw G A τ H) (hS : va_S A s.heap H locs) (hd : eX1_isSort a0 = some out_) (hsz : ls.size = nL) (hrm : (rest.map fun v => v.category).sum ≤ 8) (hR : 1 ≤ R.frames ∧ 20 ≤ R.locals) (hcs : cells ≤ R.cells ∧ slots ≤ R.slots) (hlk : Cond.methodLink own index yX1_isSort ∈ lw_all) (hdg : decode cc pc = .ok (.invokestatic index, 3)) (kk : ∀ (H1 : Heap) (locs1 : List Loc), Hw G A τ H1 → va_S A s.heap H1 locs1 → W p l e R s m args below meth c H1 locs1 cells slots Q (F0 m (pc + 3) ls (.int out_ :: rest))) : W p l e R s m args below meth c H locs cells slots Q (F0 m pc ls (.int a0 :: rest)) := by
  refine va_calli (va_runS (As := [.int a0]) (rest := rest) ⟨hx, hb, hml, hown, hts⟩ (wX1_isSort l hd) (va_cwS 1 hts (lw_S hlk q979 q66 q980) rfl rfl rfl (by decide +kernel) hR) (hr_preS hC hW hS) rfl rfl hsz rfl (lv_room hrm) hdg hcs) hS (fun _ _ h => h) (fun _ h => h) (fun r u t H1 locs1 ht hvm hp hB hz hk hS1 => ?_)
  have hp : r = out_ := hp
  subst hp
  have hW1 : Hw G A τ t.heap := hB
  rw [ht] at hW1
  exact kk H1 locs1 hW1 hS1
noncomputable def eX1_sheds (τ : HP) (o_ : Nat) (a0 : Int32) (a1 : Int32) : Option ((Int32) ⊕ (Nat × Nat × HP)) :=
  wt_bd (if a0 < 0 then (some (.inl ())) else (if (8 : Int32) ≤ a0 then (some (.inl ())) else (wt_bd (eX1_isSort a1) fun w7 => if w7 = 0 then (some (.inl ())) else (wt_bd (eX1_need τ (1 : Int32)) fun w10 => wt_rs w10 (fun o12 => wt_bd (hgA τ o_ [0] 0) fun ad13 => wt_bd (hgA τ ad13 [1] 0) fun ad15 => wt_bd (haI τ ad15 0) fun z17 => wt_ck (vp_in (((10 : Int32) * a0) + a1) z17.1) <| some (.inr (.inl (z17.2 (((10 : Int32) * a0) + a1).toNatClampNeg)))) (fun x_ => some (.inr (.inr x_))))))) fun w1 => wt_rs w1 (fun w1 => wt_bd (eX1_need τ (0 : Int32)) fun w20 => wt_rs w20 (fun o22 => wt_bd (hgA τ o_ [0] 0) fun ad23 => wt_bd (hgA τ ad23 [1] 0) fun ad25 => wt_bd (haI τ ad25 0) fun z27 => wt_ck (vp_in (((10 : Int32) * a0) + a1) z27.1) <| some (.inl (z27.2 (((10 : Int32) * a0) + a1).toNatClampNeg))) (fun x_ => some (.inr x_))) (fun z_ => some z_)
set_option maxHeartbeats 4000000 in
theorem wX1_sheds (l : Launch) (hfl : l.stackTraces = false) {G : HG} {A : Nat → Prop} {τ : HP} {o_ : Nat} {a0 : Int32} {a1 : Int32} {out_ : (Int32) ⊕ (Nat × Nat × HP)} (hd : eX1_sheds τ o_ a0 a1 = some out_) : vx_Met l yX1_sheds (ws_ yX1_sheds cX1_sheds 3 (some .int)) ({ frames := 7, cells := 1, slots := 6, locals := 130 }) (hPc G A τ [.ref o_, .int a0, .int a1]) (hXi G A (fun r u => Sum.inl r = out_ ∧ u = τ)) (hXX G A out_) 1 6 A := by
  refine vx_ofW (cc := cX1_sheds) (maxL := 3) (ret := (some .int)) (by decide) rfl ?_
  intro p_ e_ s_ m_ args_ below_ meth_ c_ s₁_ B hml hno hv
  obtain ⟨rfl, hW, hC⟩ := hv
  have hx := B.exec
  have hb := B.bytes
  have hr := B.returns
  have hts := atoms_spec (ws := (ws_ yX1_sheds cX1_sheds 3 (some .int))) B.pre
  have hts : ∀ w ∈ lw_all, w.before _ s_ = true := fun w h => hts w (List.mem_cons_of_mem _ h)
  have hown : s_.vm.findClass RX1 = some m_.cls := findClass_of_methodNamed B.named
  have hlocks := B.notSynchronized
  have hK := hC.1
  have hT := hC.2.1
  have hL := hC.2.2.1
  have hZ := hC.2.2.2.2.1
  have hA := hC.2.2.2.2.2
  have hS : va_S A s_.heap s_.heap [] := va_S.rf
  have hl := lv_entry ([.ref o_, .int a0, .int a1]) (n := 3) (Nat.le_of_ble_eq_true rfl)
  rw [lg_entry_eq]
  generalize (lg_sl ([.ref o_, .int a0, .int a1]) ++ List.replicate (3 - (lg_sl ([.ref o_, .int a0, .int a1])).length) Slot.unset).toArray = ls at hl ⊢
  have hl : lv_has ls 3 [(0, .ref o_), (1, .int a0), (2, .int a1)] := hl
  unfold eX1_sheds at hd
  refine lv_iload_n (pc := 0) hx hb dX1_sheds_0 rfl (lv_at hl 1 rfl) ?_
  obtain ⟨w1, hj2, hq3⟩ := wt_bd_o hd
  have hX4 : ∀ w1_ : Unit, (Sum.inl w1_ : (Unit) ⊕ _) = w1 → ∀ (H : Heap) (locs : List Loc) (ls : Array Slot), Hw G A τ H → va_S A s_.heap H locs → lv_has ls 3 [(0, .ref o_), (1, .int a0), (2, .int a1)] → W p_ l e_ (headSpec (ws_ yX1_sheds cX1_sheds 3 (some .int)) ({ frames := 7, cells := 1, slots := 6, locals := 130 })).room s_ m_ ([.ref o_, .int a0, .int a1] : List Value).toArray below_ meth_ c_ H locs 0 0 (vx_MQ below_ (hXi G A (fun r u => Sum.inl r = out_ ∧ u = τ)) (hXX G A out_) ([.ref o_, .int a0, .int a1] : List Value).toArray s_ 1 6 A) (F0 m_ 21 ls []) := by
    intro w1_ hw_
    have hd := wt_rs_l hw_ hq3
    clear hj2 hq3
    intro H locs ls hW hS hl
    refine lv_iconst (pc := 21) (v := 0) hx hb dX1_sheds_21 (by decide) ?_
    obtain ⟨w20, hc21, hd⟩ := wt_bd_o hd
    refine kX1_need (pc := 22) hfl hx hb hml hown hts hC hW hS hc21 hl.1 (Nat.le_of_ble_eq_true rfl) ⟨Nat.le_of_ble_eq_true rfl, Nat.le_of_ble_eq_true rfl⟩ ⟨(Nat.le_of_ble_eq_true rfl), (Nat.le_of_ble_eq_true rfl)⟩ q676 dX1_sheds_22 (fun x_ hx_ E_ ce_ q9_ H locs hXB hS hce hvn hfc => ?_) (fun o22 ho_ H locs hW hS => ?_)
    · have hd := wt_rs_r hx_ hd
      exact hx_out (fun z hz => (hno z hz).elim) hlocks hce hvn hfc (Option.some.inj hd) hXB hS (Nat.le_of_ble_eq_true rfl) (Nat.le_of_ble_eq_true rfl)
    · have hd := wt_rs_l ho_ hd
      refine lv_aload_n (pc := 25) hx hb dX1_sheds_25 rfl (lv_at hl 0 rfl) ?_
      obtain ⟨ad23, h24, hd⟩ := wt_bd_o hd
      refine hr_get (pc := 26) hx hb hts hown hK hW (hgA_o h24) hf_0_0 (fun _ h => h) q534 dX1_sheds_26 ?_
      obtain ⟨ad25, h26, hd⟩ := wt_bd_o hd
      refine hr_getN (pc := 29) hx hb hts hown hK hT hW (hgA_o h26) hf_1_0 (fun _ h => h) q121 dX1_sheds_29 ?_
      refine lv_bipush (pc := 32) (v := 10) hx hb dX1_sheds_32 (by decide) ?_
      refine lv_iload_n (pc := 34) hx hb dX1_sheds_34 rfl (lv_at hl 1 rfl) ?_
      refine lv_imul (pc := 35) hx hb dX1_sheds_35 ?_
      refine lv_iload_n (pc := 36) hx hb dX1_sheds_36 rfl (lv_at hl 2 rfl) ?_
      refine lv_iadd (pc := 37) hx hb dX1_sheds_37 ?_
      obtain ⟨z27, h28, hd⟩ := wt_bd_o hd
      obtain ⟨h29, hd⟩ := wt_ck_o hd
      refine hr_iald (pc := 38) hx hb hK hW h28 h29 dX1_sheds_38 ?_
      refine vx_ret ?_
      exact hx_iret hx hb hr rfl hlocks ⟨(Option.some.inj hd), rfl⟩ hW hS dX1_sheds_39 (Nat.le_of_ble_eq_true rfl) (Nat.le_of_ble_eq_true rfl)
  have hd := hj2
  refine lv_if_lt (pc := 1) (tgt := 21) hx hb dX1_sheds_1 (by decide) (fun c5 => ?_) (fun c5 => ?_)
  · have hd := wt_it hd c5
    exact hX4 () (Option.some.inj hd) _ _ _ hW hS hl
  · have hd := wt_if hd c5
    refine lv_iload_n (pc := 4) hx hb dX1_sheds_4 rfl (lv_at hl 1 rfl) ?_
    refine lv_bipush (pc := 5) (v := 8) hx hb dX1_sheds_5 (by decide) ?_
    refine lv_icmp_ge (pc := 7) (tgt := 21) hx hb dX1_sheds_7 (by decide) (fun c6 => ?_) (fun c6 => ?_)
    · have hd := wt_it hd c6
      exact hX4 () (Option.some.inj hd) _ _ _ hW hS hl
    · have hd := wt_if hd c6
      refine lv_iload_n (pc := 10) hx hb dX1_sheds_10 rfl (lv_at hl 2 rfl) ?_
      obtain ⟨w7, hc8, hd⟩ := wt_bd_o hd
      refine kX1_isSort (pc := 11) hx hb hml hown hts hC hW hS hc8 hl.1 (Nat.le_of_ble_eq_true rfl) ⟨Nat.le_of_ble_eq_true rfl, Nat.le_of_ble_eq_true rfl⟩ ⟨Nat.le_of_ble_eq_true rfl, Nat.le_of_ble_eq_true rfl⟩ q978 dX1_sheds_11 (fun H locs hW hS => ?_)
      refine lv_if_eq (pc := 14) (tgt := 21) hx hb dX1_sheds_14 (by decide) (fun c9 => ?_) (fun c9 => ?_)
      · have hd := wt_it hd c9
        exact hX4 () (Option.some.inj hd) _ _ _ hW hS hl
      · have hd := wt_if hd c9
        refine lv_iconst (pc := 17) (v := 1) hx hb dX1_sheds_17 (by decide) ?_
        refine lv_goto (pc := 18) (tgt := 22) hx hb dX1_sheds_18 (by decide) ?_
        obtain ⟨w10, hc11, hd⟩ := wt_bd_o hd
        refine kX1_need (pc := 22) hfl hx hb hml hown hts hC hW hS hc11 hl.1 (Nat.le_of_ble_eq_true rfl) ⟨Nat.le_of_ble_eq_true rfl, Nat.le_of_ble_eq_true rfl⟩ ⟨(Nat.le_of_ble_eq_true rfl), (Nat.le_of_ble_eq_true rfl)⟩ q676 dX1_sheds_22 (fun x_ hx_ E_ ce_ q9_ H locs hXB hS hce hvn hfc => ?_) (fun o12 ho_ H locs hW hS => ?_)
        · have hd := wt_rs_r hx_ hd
          have hd := wt_rs_r (Option.some.inj hd) hq3
          exact hx_out (fun z hz => (hno z hz).elim) hlocks hce hvn hfc (Option.some.inj hd) hXB hS (Nat.le_of_ble_eq_true rfl) (Nat.le_of_ble_eq_true rfl)
        · have hd := wt_rs_l ho_ hd
          refine lv_aload_n (pc := 25) hx hb dX1_sheds_25 rfl (lv_at hl 0 rfl) ?_
          obtain ⟨ad13, h14, hd⟩ := wt_bd_o hd
          refine hr_get (pc := 26) hx hb hts hown hK hW (hgA_o h14) hf_0_0 (fun _ h => h) q534 dX1_sheds_26 ?_
          obtain ⟨ad15, h16, hd⟩ := wt_bd_o hd
          refine hr_getN (pc := 29) hx hb hts hown hK hT hW (hgA_o h16) hf_1_0 (fun _ h => h) q121 dX1_sheds_29 ?_
          refine lv_bipush (pc := 32) (v := 10) hx hb dX1_sheds_32 (by decide) ?_
          refine lv_iload_n (pc := 34) hx hb dX1_sheds_34 rfl (lv_at hl 1 rfl) ?_
          refine lv_imul (pc := 35) hx hb dX1_sheds_35 ?_
          refine lv_iload_n (pc := 36) hx hb dX1_sheds_36 rfl (lv_at hl 2 rfl) ?_
          refine lv_iadd (pc := 37) hx hb dX1_sheds_37 ?_
          obtain ⟨z17, h18, hd⟩ := wt_bd_o hd
          obtain ⟨h19, hd⟩ := wt_ck_o hd
          refine hr_iald (pc := 38) hx hb hK hW h18 h19 dX1_sheds_38 ?_
          have hd := wt_rs_r (Option.some.inj hd) hq3
          refine vx_ret ?_
          exact hx_iret hx hb hr rfl hlocks ⟨(Option.some.inj hd), rfl⟩ hW hS dX1_sheds_39 (Nat.le_of_ble_eq_true rfl) (Nat.le_of_ble_eq_true rfl)
theorem kX1_sheds {p : Program} {l : Launch} {e : Env} {R : Room} {s : State} {m : MethodId} {args : Array Value} {below : List Frame} {meth : Method} {c : Code} {H : Heap} {locs : List Loc} {cells slots : Nat} {Q : State → Prop} {cc : ByteArray} {pc : Nat} {ls : Array Slot} {rest : List Value} {nL : Nat} {own : String} {index : Nat} {G : HG} {A : Nat → Prop} {τ : HP} {o_ : Nat} {a0 : Int32} {a1 : Int32} {out_ : (Int32) ⊕ (Nat × Nat × HP)} (hfl : l.stackTraces = false) (hx : p.tables.exec = Jvm.exec) (hb : c.code = cc) (hml : c.maxLocals = nL) (hown : s.vm.findClass own = some m.cls) (hts : ∀ w ∈ lw_all, w.before args s = true) (hC : Hcx G A s) (hW : Hw G A τ H) (hS : va_S A s.heap H locs) (hrc : hcl τ o_ = some 0) (hd : eX1_sheds τ o_ a0 a1 = some out_) (hsz : ls.size = nL) (hrm : (rest.map fun v => v.category).sum ≤ 8) (hR : 8 ≤ R.frames ∧ 152 ≤ R.locals) (hcs : (cells + 1) ≤ R.cells ∧ (slots + 6) ≤ R.slots) (hlk : Cond.methodLink own index yX1_sheds ∈ lw_all) (hdg : decode cc pc = .ok (.invokevirtual index, 3)) (kx : ∀ x_ : Nat × Nat × HP, Sum.inr x_ = out_ → ∀ (E : String) (ce : Cell) (q9 : Addr) (H1 : Heap) (locs1 : List Loc), hXb G A E q9 x_ H1 → va_S A s.heap H1 locs1 → H1[q9]? = some ce → ce.vm = .none → s.vm.findClass E = some ce.cls → vx_W p l e R s m args below meth c H1 locs1 (cells + 1) (slots + 6) Q (F0 m pc ls rest) q9) (kk : ∀ o_1 : Int32, Sum.inl o_1 = out_ → ∀ (H1 : Heap) (locs1 : List Loc), Hw G A τ H1 → va_S A s.heap H1 locs1 → W p l e R s m args below meth c H1 locs1 (cells + 1) (slots + 6) Q (F0 m (pc + 3) ls (.int o_1 :: rest))) : W p l e R s m args below meth c H locs cells slots Q (F0 m pc ls (.int a1 :: .int a0 :: .ref o_ :: rest)) := by
  refine vx_calli (vx_runV (As := [.int a0, .int a1]) (rest := rest) ⟨hx, hb, hml, hown, hts⟩ (wX1_sheds l hfl hd) (cwV 2 hts (lw_V hlk q975 q976 q66 q977) rfl rfl rfl (by decide +kernel) hR) (hr_preV hC hW hS hrc rfl rfl) rfl rfl hsz rfl (lv_room hrm) hdg hcs) hS (fun _ _ h => h) (fun _ h => h) (fun _ _ h => h) (fun E ce q9 u t H1 locs1 ht hvm hp hB hz hk hS1 hce hvn hfc => ?_) (fun r u t H1 locs1 ht hvm hp hB hz hk hS1 => ?_)
  · rw [ht] at hB
    exact kx u hp E ce q9 H1 locs1 hB hS1 hce hvn hfc
  · have hW1 : Hw G A u t.heap := hB
    rw [ht] at hW1
    obtain ⟨hp, rfl⟩ := hp
    exact kk r hp H1 locs1 hW1 hS1
noncomputable def eX1_told (τ : HP) (o_ : Nat) (a0 : Int32) (a1 : Int32) : Option ((Int32) ⊕ (Nat × Nat × HP)) :=
  wt_bd (eX1_isSort a0) fun w1 => wt_bd (if w1 = 0 then (some (.inl ())) else (if a1 < 0 then (some (.inl ())) else (if (4 : Int32) < a1 then (some (.inl ())) else (wt_bd (eX1_need τ (1 : Int32)) fun w10 => wt_rs w10 (fun o12 => if a1 = (0 : Int32) then (wt_bd (hgA τ o_ [0] 0) fun ad14 => wt_bd (hgA τ ad14 [1] 1) fun ad16 => wt_bd (haI τ ad16 0) fun z18 => wt_ck (vp_in a0 z18.1) <| some (.inr (.inl (z18.2 a0.toNatClampNeg)))) else (if a1 = (1 : Int32) then (wt_bd (hgA τ o_ [0] 0) fun ad22 => wt_bd (hgA τ ad22 [1] 2) fun ad24 => wt_bd (haI τ ad24 0) fun z26 => wt_ck (vp_in a0 z26.1) <| some (.inr (.inl (z26.2 a0.toNatClampNeg)))) else (if a1 = (2 : Int32) then (wt_bd (hgA τ o_ [0] 0) fun ad30 => wt_bd (hgI τ ad30 [1] 4) fun f32 => some (.inr (.inl f32))) else (if a1 = (3 : Int32) then (wt_bd (hgA τ o_ [0] 0) fun ad35 => wt_bd (hgI τ ad35 [1] 5) fun f37 => some (.inr (.inl f37))) else (wt_bd (hgA τ o_ [0] 0) fun ad39 => wt_bd (hgI τ ad39 [1] 6) fun f41 => some (.inr (.inl f41))))))) (fun x_ => some (.inr (.inr x_))))))) fun w3 => wt_rs w3 (fun w3 => wt_bd (eX1_need τ (0 : Int32)) fun w43 => wt_rs w43 (fun o45 => if a1 = (0 : Int32) then (wt_bd (hgA τ o_ [0] 0) fun ad47 => wt_bd (hgA τ ad47 [1] 1) fun ad49 => wt_bd (haI τ ad49 0) fun z51 => wt_ck (vp_in a0 z51.1) <| some (.inl (z51.2 a0.toNatClampNeg))) else (if a1 = (1 : Int32) then (wt_bd (hgA τ o_ [0] 0) fun ad55 => wt_bd (hgA τ ad55 [1] 2) fun ad57 => wt_bd (haI τ ad57 0) fun z59 => wt_ck (vp_in a0 z59.1) <| some (.inl (z59.2 a0.toNatClampNeg))) else (if a1 = (2 : Int32) then (wt_bd (hgA τ o_ [0] 0) fun ad63 => wt_bd (hgI τ ad63 [1] 4) fun f65 => some (.inl f65)) else (if a1 = (3 : Int32) then (wt_bd (hgA τ o_ [0] 0) fun ad68 => wt_bd (hgI τ ad68 [1] 5) fun f70 => some (.inl f70)) else (wt_bd (hgA τ o_ [0] 0) fun ad72 => wt_bd (hgI τ ad72 [1] 6) fun f74 => some (.inl f74)))))) (fun x_ => some (.inr x_))) (fun z_ => some z_)
set_option maxHeartbeats 4000000 in
theorem wX1_told (l : Launch) (hfl : l.stackTraces = false) {G : HG} {A : Nat → Prop} {τ : HP} {o_ : Nat} {a0 : Int32} {a1 : Int32} {out_ : (Int32) ⊕ (Nat × Nat × HP)} (hd : eX1_told τ o_ a0 a1 = some out_) : vx_Met l yX1_told (ws_ yX1_told cX1_told 3 (some .int)) ({ frames := 7, cells := 1, slots := 6, locals := 130 }) (hPc G A τ [.ref o_, .int a0, .int a1]) (hXi G A (fun r u => Sum.inl r = out_ ∧ u = τ)) (hXX G A out_) 1 6 A := by
  refine vx_ofW (cc := cX1_told) (maxL := 3) (ret := (some .int)) (by decide) rfl ?_
  intro p_ e_ s_ m_ args_ below_ meth_ c_ s₁_ B hml hno hv
  obtain ⟨rfl, hW, hC⟩ := hv
  have hx := B.exec
  have hb := B.bytes
  have hr := B.returns
  have hts := atoms_spec (ws := (ws_ yX1_told cX1_told 3 (some .int))) B.pre
  have hts : ∀ w ∈ lw_all, w.before _ s_ = true := fun w h => hts w (List.mem_cons_of_mem _ h)
  have hown : s_.vm.findClass RX1 = some m_.cls := findClass_of_methodNamed B.named
  have hlocks := B.notSynchronized
  have hK := hC.1
  have hT := hC.2.1
  have hL := hC.2.2.1
  have hZ := hC.2.2.2.2.1
  have hA := hC.2.2.2.2.2
  have hS : va_S A s_.heap s_.heap [] := va_S.rf
  have hl := lv_entry ([.ref o_, .int a0, .int a1]) (n := 3) (Nat.le_of_ble_eq_true rfl)
  rw [lg_entry_eq]
  generalize (lg_sl ([.ref o_, .int a0, .int a1]) ++ List.replicate (3 - (lg_sl ([.ref o_, .int a0, .int a1])).length) Slot.unset).toArray = ls at hl ⊢
  have hl : lv_has ls 3 [(0, .ref o_), (1, .int a0), (2, .int a1)] := hl
  unfold eX1_told at hd
  refine lv_iload_n (pc := 0) hx hb dX1_told_0 rfl (lv_at hl 1 rfl) ?_
  obtain ⟨w1, hc2, hd⟩ := wt_bd_o hd
  refine kX1_isSort (pc := 1) hx hb hml hown hts hC hW hS hc2 hl.1 (Nat.le_of_ble_eq_true rfl) ⟨Nat.le_of_ble_eq_true rfl, Nat.le_of_ble_eq_true rfl⟩ ⟨Nat.le_of_ble_eq_true rfl, Nat.le_of_ble_eq_true rfl⟩ q978 dX1_told_1 (fun H locs hW hS => ?_)
  obtain ⟨w3, hj4, hq5⟩ := wt_bd_o hd
  have hX6 : ∀ w3_ : Unit, (Sum.inl w3_ : (Unit) ⊕ _) = w3 → ∀ (H : Heap) (locs : List Loc) (ls : Array Slot), Hw G A τ H → va_S A s_.heap H locs → lv_has ls 3 [(0, .ref o_), (1, .int a0), (2, .int a1)] → W p_ l e_ (headSpec (ws_ yX1_told cX1_told 3 (some .int)) ({ frames := 7, cells := 1, slots := 6, locals := 130 })).room s_ m_ ([.ref o_, .int a0, .int a1] : List Value).toArray below_ meth_ c_ H locs 0 0 (vx_MQ below_ (hXi G A (fun r u => Sum.inl r = out_ ∧ u = τ)) (hXX G A out_) ([.ref o_, .int a0, .int a1] : List Value).toArray s_ 1 6 A) (F0 m_ 20 ls []) := by
    intro w3_ hw_
    have hd := wt_rs_l hw_ hq5
    clear hj4 hq5
    intro H locs ls hW hS hl
    refine lv_iconst (pc := 20) (v := 0) hx hb dX1_told_20 (by decide) ?_
    obtain ⟨w43, hc44, hd⟩ := wt_bd_o hd
    refine kX1_need (pc := 21) hfl hx hb hml hown hts hC hW hS hc44 hl.1 (Nat.le_of_ble_eq_true rfl) ⟨Nat.le_of_ble_eq_true rfl, Nat.le_of_ble_eq_true rfl⟩ ⟨(Nat.le_of_ble_eq_true rfl), (Nat.le_of_ble_eq_true rfl)⟩ q676 dX1_told_21 (fun x_ hx_ E_ ce_ q9_ H locs hXB hS hce hvn hfc => ?_) (fun o45 ho_ H locs hW hS => ?_)
    · have hd := wt_rs_r hx_ hd
      exact hx_out (fun z hz => (hno z hz).elim) hlocks hce hvn hfc (Option.some.inj hd) hXB hS (Nat.le_of_ble_eq_true rfl) (Nat.le_of_ble_eq_true rfl)
    · have hd := wt_rs_l ho_ hd
      refine lv_iload_n (pc := 24) hx hb dX1_told_24 rfl (lv_at hl 2 rfl) ?_
      by_cases c46 : a1 = (0 : Int32)
      · have hd := wt_it hd c46
        refine lv_tableIn (pc := 25) (tgt := 56) (off := 31) hx hb dX1_told_25 (by rw [c46]; decide) (by rw [c46]; decide) (by rw [c46]; rfl) (by decide) ?_
        refine lv_aload_n (pc := 56) hx hb dX1_told_56 rfl (lv_at hl 0 rfl) ?_
        obtain ⟨ad47, h48, hd⟩ := wt_bd_o hd
        refine hr_get (pc := 57) hx hb hts hown hK hW (hgA_o h48) hf_0_0 (fun _ h => h) q534 dX1_told_57 ?_
        obtain ⟨ad49, h50, hd⟩ := wt_bd_o hd
        refine hr_getN (pc := 60) hx hb hts hown hK hT hW (hgA_o h50) hf_1_1 (fun _ h => h) q125 dX1_told_60 ?_
        refine lv_iload_n (pc := 63) hx hb dX1_told_63 rfl (lv_at hl 1 rfl) ?_
        obtain ⟨z51, h52, hd⟩ := wt_bd_o hd
        obtain ⟨h53, hd⟩ := wt_ck_o hd
        refine hr_iald (pc := 64) hx hb hK hW h52 h53 dX1_told_64 ?_
        refine vx_ret ?_
        exact hx_iret hx hb hr rfl hlocks ⟨(Option.some.inj hd), rfl⟩ hW hS dX1_told_65 (Nat.le_of_ble_eq_true rfl) (Nat.le_of_ble_eq_true rfl)
      have hd := wt_if hd c46
      by_cases c54 : a1 = (1 : Int32)
      · have hd := wt_it hd c54
        refine lv_tableIn (pc := 25) (tgt := 66) (off := 41) hx hb dX1_told_25 (by rw [c54]; decide) (by rw [c54]; decide) (by rw [c54]; rfl) (by decide) ?_
        refine lv_aload_n (pc := 66) hx hb dX1_told_66 rfl (lv_at hl 0 rfl) ?_
        obtain ⟨ad55, h56, hd⟩ := wt_bd_o hd
        refine hr_get (pc := 67) hx hb hts hown hK hW (hgA_o h56) hf_0_0 (fun _ h => h) q534 dX1_told_67 ?_
        obtain ⟨ad57, h58, hd⟩ := wt_bd_o hd
        refine hr_getN (pc := 70) hx hb hts hown hK hT hW (hgA_o h58) hf_1_2 (fun _ h => h) q129 dX1_told_70 ?_
        refine lv_iload_n (pc := 73) hx hb dX1_told_73 rfl (lv_at hl 1 rfl) ?_
        obtain ⟨z59, h60, hd⟩ := wt_bd_o hd
        obtain ⟨h61, hd⟩ := wt_ck_o hd
        refine hr_iald (pc := 74) hx hb hK hW h60 h61 dX1_told_74 ?_
        refine vx_ret ?_
        exact hx_iret hx hb hr rfl hlocks ⟨(Option.some.inj hd), rfl⟩ hW hS dX1_told_75 (Nat.le_of_ble_eq_true rfl) (Nat.le_of_ble_eq_true rfl)
      have hd := wt_if hd c54
      by_cases c62 : a1 = (2 : Int32)
      · have hd := wt_it hd c62
        refine lv_tableIn (pc := 25) (tgt := 76) (off := 51) hx hb dX1_told_25 (by rw [c62]; decide) (by rw [c62]; decide) (by rw [c62]; rfl) (by decide) ?_
        refine lv_aload_n (pc := 76) hx hb dX1_told_76 rfl (lv_at hl 0 rfl) ?_
        obtain ⟨ad63, h64, hd⟩ := wt_bd_o hd
        refine hr_get (pc := 77) hx hb hts hown hK hW (hgA_o h64) hf_0_0 (fun _ h => h) q534 dX1_told_77 ?_
        obtain ⟨f65, h66, hd⟩ := wt_bd_o hd
        refine hr_getN (pc := 80) hx hb hts hown hK hT hW (hgI_o h66) hf_1_4 (fun _ h => h) q135 dX1_told_80 ?_
        refine vx_ret ?_
        exact hx_iret hx hb hr rfl hlocks ⟨(Option.some.inj hd), rfl⟩ hW hS dX1_told_83 (Nat.le_of_ble_eq_true rfl) (Nat.le_of_ble_eq_true rfl)
      have hd := wt_if hd c62
      by_cases c67 : a1 = (3 : Int32)
      · have hd := wt_it hd c67
        refine lv_tableIn (pc := 25) (tgt := 84) (off := 59) hx hb dX1_told_25 (by rw [c67]; decide) (by rw [c67]; decide) (by rw [c67]; rfl) (by decide) ?_
        refine lv_aload_n (pc := 84) hx hb dX1_told_84 rfl (lv_at hl 0 rfl) ?_
        obtain ⟨ad68, h69, hd⟩ := wt_bd_o hd
        refine hr_get (pc := 85) hx hb hts hown hK hW (hgA_o h69) hf_0_0 (fun _ h => h) q534 dX1_told_85 ?_
        obtain ⟨f70, h71, hd⟩ := wt_bd_o hd
        refine hr_getN (pc := 88) hx hb hts hown hK hT hW (hgI_o h71) hf_1_5 (fun _ h => h) q138 dX1_told_88 ?_
        refine vx_ret ?_
        exact hx_iret hx hb hr rfl hlocks ⟨(Option.some.inj hd), rfl⟩ hW hS dX1_told_91 (Nat.le_of_ble_eq_true rfl) (Nat.le_of_ble_eq_true rfl)
      have hd := wt_if hd c67
      have ec46 : ¬ (a1).toInt = 0 := fun h => c46 (wt_i32 h (by decide))
      have ec54 : ¬ (a1).toInt = 1 := fun h => c54 (wt_i32 h (by decide))
      have ec62 : ¬ (a1).toInt = 2 := fun h => c62 (wt_i32 h (by decide))
      have ec67 : ¬ (a1).toInt = 3 := fun h => c67 (wt_i32 h (by decide))
      refine lv_tableOut (pc := 25) (tgt := 92) hx hb dX1_told_25 (by omega) (by decide) ?_
      refine lv_aload_n (pc := 92) hx hb dX1_told_92 rfl (lv_at hl 0 rfl) ?_
      obtain ⟨ad72, h73, hd⟩ := wt_bd_o hd
      refine hr_get (pc := 93) hx hb hts hown hK hW (hgA_o h73) hf_0_0 (fun _ h => h) q534 dX1_told_93 ?_
      obtain ⟨f74, h75, hd⟩ := wt_bd_o hd
      refine hr_getN (pc := 96) hx hb hts hown hK hT hW (hgI_o h75) hf_1_6 (fun _ h => h) q142 dX1_told_96 ?_
      refine vx_ret ?_
      exact hx_iret hx hb hr rfl hlocks ⟨(Option.some.inj hd), rfl⟩ hW hS dX1_told_99 (Nat.le_of_ble_eq_true rfl) (Nat.le_of_ble_eq_true rfl)
  have hd := hj4
  refine lv_if_eq (pc := 4) (tgt := 20) hx hb dX1_told_4 (by decide) (fun c7 => ?_) (fun c7 => ?_)
  · have hd := wt_it hd c7
    exact hX6 () (Option.some.inj hd) _ _ _ hW hS hl
  · have hd := wt_if hd c7
    refine lv_iload_n (pc := 7) hx hb dX1_told_7 rfl (lv_at hl 2 rfl) ?_
    refine lv_if_lt (pc := 8) (tgt := 20) hx hb dX1_told_8 (by decide) (fun c8 => ?_) (fun c8 => ?_)
    · have hd := wt_it hd c8
      exact hX6 () (Option.some.inj hd) _ _ _ hW hS hl
    · have hd := wt_if hd c8
      refine lv_iload_n (pc := 11) hx hb dX1_told_11 rfl (lv_at hl 2 rfl) ?_
      refine lv_iconst (pc := 12) (v := 4) hx hb dX1_told_12 (by decide) ?_
      refine lv_icmp_gt (pc := 13) (tgt := 20) hx hb dX1_told_13 (by decide) (fun c9 => ?_) (fun c9 => ?_)
      · have hd := wt_it hd c9
        exact hX6 () (Option.some.inj hd) _ _ _ hW hS hl
      · have hd := wt_if hd c9
        refine lv_iconst (pc := 16) (v := 1) hx hb dX1_told_16 (by decide) ?_
        refine lv_goto (pc := 17) (tgt := 21) hx hb dX1_told_17 (by decide) ?_
        obtain ⟨w10, hc11, hd⟩ := wt_bd_o hd
        refine kX1_need (pc := 21) hfl hx hb hml hown hts hC hW hS hc11 hl.1 (Nat.le_of_ble_eq_true rfl) ⟨Nat.le_of_ble_eq_true rfl, Nat.le_of_ble_eq_true rfl⟩ ⟨(Nat.le_of_ble_eq_true rfl), (Nat.le_of_ble_eq_true rfl)⟩ q676 dX1_told_21 (fun x_ hx_ E_ ce_ q9_ H locs hXB hS hce hvn hfc => ?_) (fun o12 ho_ H locs hW hS => ?_)
        · have hd := wt_rs_r hx_ hd
          have hd := wt_rs_r (Option.some.inj hd) hq5
          exact hx_out (fun z hz => (hno z hz).elim) hlocks hce hvn hfc (Option.some.inj hd) hXB hS (Nat.le_of_ble_eq_true rfl) (Nat.le_of_ble_eq_true rfl)
        · have hd := wt_rs_l ho_ hd
          refine lv_iload_n (pc := 24) hx hb dX1_told_24 rfl (lv_at hl 2 rfl) ?_
          by_cases c13 : a1 = (0 : Int32)
          · have hd := wt_it hd c13
            refine lv_tableIn (pc := 25) (tgt := 56) (off := 31) hx hb dX1_told_25 (by rw [c13]; decide) (by rw [c13]; decide) (by rw [c13]; rfl) (by decide) ?_
            refine lv_aload_n (pc := 56) hx hb dX1_told_56 rfl (lv_at hl 0 rfl) ?_
            obtain ⟨ad14, h15, hd⟩ := wt_bd_o hd
            refine hr_get (pc := 57) hx hb hts hown hK hW (hgA_o h15) hf_0_0 (fun _ h => h) q534 dX1_told_57 ?_
            obtain ⟨ad16, h17, hd⟩ := wt_bd_o hd
            refine hr_getN (pc := 60) hx hb hts hown hK hT hW (hgA_o h17) hf_1_1 (fun _ h => h) q125 dX1_told_60 ?_
            refine lv_iload_n (pc := 63) hx hb dX1_told_63 rfl (lv_at hl 1 rfl) ?_
            obtain ⟨z18, h19, hd⟩ := wt_bd_o hd
            obtain ⟨h20, hd⟩ := wt_ck_o hd
            refine hr_iald (pc := 64) hx hb hK hW h19 h20 dX1_told_64 ?_
            have hd := wt_rs_r (Option.some.inj hd) hq5
            refine vx_ret ?_
            exact hx_iret hx hb hr rfl hlocks ⟨(Option.some.inj hd), rfl⟩ hW hS dX1_told_65 (Nat.le_of_ble_eq_true rfl) (Nat.le_of_ble_eq_true rfl)
          have hd := wt_if hd c13
          by_cases c21 : a1 = (1 : Int32)
          · have hd := wt_it hd c21
            refine lv_tableIn (pc := 25) (tgt := 66) (off := 41) hx hb dX1_told_25 (by rw [c21]; decide) (by rw [c21]; decide) (by rw [c21]; rfl) (by decide) ?_
            refine lv_aload_n (pc := 66) hx hb dX1_told_66 rfl (lv_at hl 0 rfl) ?_
            obtain ⟨ad22, h23, hd⟩ := wt_bd_o hd
            refine hr_get (pc := 67) hx hb hts hown hK hW (hgA_o h23) hf_0_0 (fun _ h => h) q534 dX1_told_67 ?_
            obtain ⟨ad24, h25, hd⟩ := wt_bd_o hd
            refine hr_getN (pc := 70) hx hb hts hown hK hT hW (hgA_o h25) hf_1_2 (fun _ h => h) q129 dX1_told_70 ?_
            refine lv_iload_n (pc := 73) hx hb dX1_told_73 rfl (lv_at hl 1 rfl) ?_
            obtain ⟨z26, h27, hd⟩ := wt_bd_o hd
            obtain ⟨h28, hd⟩ := wt_ck_o hd
            refine hr_iald (pc := 74) hx hb hK hW h27 h28 dX1_told_74 ?_
            have hd := wt_rs_r (Option.some.inj hd) hq5
            refine vx_ret ?_
            exact hx_iret hx hb hr rfl hlocks ⟨(Option.some.inj hd), rfl⟩ hW hS dX1_told_75 (Nat.le_of_ble_eq_true rfl) (Nat.le_of_ble_eq_true rfl)
          have hd := wt_if hd c21
          by_cases c29 : a1 = (2 : Int32)
          · have hd := wt_it hd c29
            refine lv_tableIn (pc := 25) (tgt := 76) (off := 51) hx hb dX1_told_25 (by rw [c29]; decide) (by rw [c29]; decide) (by rw [c29]; rfl) (by decide) ?_
            refine lv_aload_n (pc := 76) hx hb dX1_told_76 rfl (lv_at hl 0 rfl) ?_
            obtain ⟨ad30, h31, hd⟩ := wt_bd_o hd
            refine hr_get (pc := 77) hx hb hts hown hK hW (hgA_o h31) hf_0_0 (fun _ h => h) q534 dX1_told_77 ?_
            obtain ⟨f32, h33, hd⟩ := wt_bd_o hd
            refine hr_getN (pc := 80) hx hb hts hown hK hT hW (hgI_o h33) hf_1_4 (fun _ h => h) q135 dX1_told_80 ?_
            have hd := wt_rs_r (Option.some.inj hd) hq5
            refine vx_ret ?_
            exact hx_iret hx hb hr rfl hlocks ⟨(Option.some.inj hd), rfl⟩ hW hS dX1_told_83 (Nat.le_of_ble_eq_true rfl) (Nat.le_of_ble_eq_true rfl)
          have hd := wt_if hd c29
          by_cases c34 : a1 = (3 : Int32)
          · have hd := wt_it hd c34
            refine lv_tableIn (pc := 25) (tgt := 84) (off := 59) hx hb dX1_told_25 (by rw [c34]; decide) (by rw [c34]; decide) (by rw [c34]; rfl) (by decide) ?_
            refine lv_aload_n (pc := 84) hx hb dX1_told_84 rfl (lv_at hl 0 rfl) ?_
            obtain ⟨ad35, h36, hd⟩ := wt_bd_o hd
            refine hr_get (pc := 85) hx hb hts hown hK hW (hgA_o h36) hf_0_0 (fun _ h => h) q534 dX1_told_85 ?_
            obtain ⟨f37, h38, hd⟩ := wt_bd_o hd
            refine hr_getN (pc := 88) hx hb hts hown hK hT hW (hgI_o h38) hf_1_5 (fun _ h => h) q138 dX1_told_88 ?_
            have hd := wt_rs_r (Option.some.inj hd) hq5
            refine vx_ret ?_
            exact hx_iret hx hb hr rfl hlocks ⟨(Option.some.inj hd), rfl⟩ hW hS dX1_told_91 (Nat.le_of_ble_eq_true rfl) (Nat.le_of_ble_eq_true rfl)
          have hd := wt_if hd c34
          have ec13 : ¬ (a1).toInt = 0 := fun h => c13 (wt_i32 h (by decide))
          have ec21 : ¬ (a1).toInt = 1 := fun h => c21 (wt_i32 h (by decide))
          have ec29 : ¬ (a1).toInt = 2 := fun h => c29 (wt_i32 h (by decide))
          have ec34 : ¬ (a1).toInt = 3 := fun h => c34 (wt_i32 h (by decide))
          refine lv_tableOut (pc := 25) (tgt := 92) hx hb dX1_told_25 (by omega) (by decide) ?_
          refine lv_aload_n (pc := 92) hx hb dX1_told_92 rfl (lv_at hl 0 rfl) ?_
          obtain ⟨ad39, h40, hd⟩ := wt_bd_o hd
          refine hr_get (pc := 93) hx hb hts hown hK hW (hgA_o h40) hf_0_0 (fun _ h => h) q534 dX1_told_93 ?_
          obtain ⟨f41, h42, hd⟩ := wt_bd_o hd
          refine hr_getN (pc := 96) hx hb hts hown hK hT hW (hgI_o h42) hf_1_6 (fun _ h => h) q142 dX1_told_96 ?_
          have hd := wt_rs_r (Option.some.inj hd) hq5
          refine vx_ret ?_
          exact hx_iret hx hb hr rfl hlocks ⟨(Option.some.inj hd), rfl⟩ hW hS dX1_told_99 (Nat.le_of_ble_eq_true rfl) (Nat.le_of_ble_eq_true rfl)
theorem kX1_told {p : Program} {l : Launch} {e : Env} {R : Room} {s : State} {m : MethodId} {args : Array Value} {below : List Frame} {meth : Method} {c : Code} {H : Heap} {locs : List Loc} {cells slots : Nat} {Q : State → Prop} {cc : ByteArray} {pc : Nat} {ls : Array Slot} {rest : List Value} {nL : Nat} {own : String} {index : Nat} {G : HG} {A : Nat → Prop} {τ : HP} {o_ : Nat} {a0 : Int32} {a1 : Int32} {out_ : (Int32) ⊕ (Nat × Nat × HP)} (hfl : l.stackTraces = false) (hx : p.tables.exec = Jvm.exec) (hb : c.code = cc) (hml : c.maxLocals = nL) (hown : s.vm.findClass own = some m.cls) (hts : ∀ w ∈ lw_all, w.before args s = true) (hC : Hcx G A s) (hW : Hw G A τ H) (hS : va_S A s.heap H locs) (hrc : hcl τ o_ = some 0) (hd : eX1_told τ o_ a0 a1 = some out_) (hsz : ls.size = nL) (hrm : (rest.map fun v => v.category).sum ≤ 8) (hR : 8 ≤ R.frames ∧ 152 ≤ R.locals) (hcs : (cells + 1) ≤ R.cells ∧ (slots + 6) ≤ R.slots) (hlk : Cond.methodLink own index yX1_told ∈ lw_all) (hdg : decode cc pc = .ok (.invokevirtual index, 3)) (kx : ∀ x_ : Nat × Nat × HP, Sum.inr x_ = out_ → ∀ (E : String) (ce : Cell) (q9 : Addr) (H1 : Heap) (locs1 : List Loc), hXb G A E q9 x_ H1 → va_S A s.heap H1 locs1 → H1[q9]? = some ce → ce.vm = .none → s.vm.findClass E = some ce.cls → vx_W p l e R s m args below meth c H1 locs1 (cells + 1) (slots + 6) Q (F0 m pc ls rest) q9) (kk : ∀ o_1 : Int32, Sum.inl o_1 = out_ → ∀ (H1 : Heap) (locs1 : List Loc), Hw G A τ H1 → va_S A s.heap H1 locs1 → W p l e R s m args below meth c H1 locs1 (cells + 1) (slots + 6) Q (F0 m (pc + 3) ls (.int o_1 :: rest))) : W p l e R s m args below meth c H locs cells slots Q (F0 m pc ls (.int a1 :: .int a0 :: .ref o_ :: rest)) := by
  refine vx_calli (vx_runV (As := [.int a0, .int a1]) (rest := rest) ⟨hx, hb, hml, hown, hts⟩ (wX1_told l hfl hd) (cwV 2 hts (lw_V hlk q985 q986 q66 q987) rfl rfl rfl (by decide +kernel) hR) (hr_preV hC hW hS hrc rfl rfl) rfl rfl hsz rfl (lv_room hrm) hdg hcs) hS (fun _ _ h => h) (fun _ h => h) (fun _ _ h => h) (fun E ce q9 u t H1 locs1 ht hvm hp hB hz hk hS1 hce hvn hfc => ?_) (fun r u t H1 locs1 ht hvm hp hB hz hk hS1 => ?_)
  · rw [ht] at hB
    exact kx u hp E ce q9 H1 locs1 hB hS1 hce hvn hfc
  · have hW1 : Hw G A u t.heap := hB
    rw [ht] at hW1
    obtain ⟨hp, rfl⟩ := hp
    exact kk r hp H1 locs1 hW1 hS1
noncomputable def eX1_alike (τ : HP) (o_ : Nat) (a0 : Int32) : Option ((Int32) ⊕ (Nat × Nat × HP)) :=
  wt_bd (eX1_isSort a0) fun w1 => wt_bd (eX1_need τ w1) fun w3 => wt_rs w3 (fun o5 => wt_bd (hgA τ o_ [0] 0) fun ad6 => wt_bd (hgA τ ad6 [1] 3) fun ad8 => wt_bd (haI τ ad8 0) fun z10 => wt_ck (vp_in a0 z10.1) <| some (.inl (z10.2 a0.toNatClampNeg))) (fun x_ => some (.inr x_))
set_option maxHeartbeats 4000000 in
theorem wX1_alike (l : Launch) (hfl : l.stackTraces = false) {G : HG} {A : Nat → Prop} {τ : HP} {o_ : Nat} {a0 : Int32} {out_ : (Int32) ⊕ (Nat × Nat × HP)} (hd : eX1_alike τ o_ a0 = some out_) : vx_Met l yX1_alike (ws_ yX1_alike cX1_alike 2 (some .int)) ({ frames := 7, cells := 1, slots := 6, locals := 130 }) (hPc G A τ [.ref o_, .int a0]) (hXi G A (fun r u => Sum.inl r = out_ ∧ u = τ)) (hXX G A out_) 1 6 A := by
  refine vx_ofW (cc := cX1_alike) (maxL := 2) (ret := (some .int)) (by decide) rfl ?_
  intro p_ e_ s_ m_ args_ below_ meth_ c_ s₁_ B hml hno hv
  obtain ⟨rfl, hW, hC⟩ := hv
  have hx := B.exec
  have hb := B.bytes
  have hr := B.returns
  have hts := atoms_spec (ws := (ws_ yX1_alike cX1_alike 2 (some .int))) B.pre
  have hts : ∀ w ∈ lw_all, w.before _ s_ = true := fun w h => hts w (List.mem_cons_of_mem _ h)
  have hown : s_.vm.findClass RX1 = some m_.cls := findClass_of_methodNamed B.named
  have hlocks := B.notSynchronized
  have hK := hC.1
  have hT := hC.2.1
  have hL := hC.2.2.1
  have hZ := hC.2.2.2.2.1
  have hA := hC.2.2.2.2.2
  have hS : va_S A s_.heap s_.heap [] := va_S.rf
  have hl := lv_entry ([.ref o_, .int a0]) (n := 2) (Nat.le_of_ble_eq_true rfl)
  rw [lg_entry_eq]
  generalize (lg_sl ([.ref o_, .int a0]) ++ List.replicate (2 - (lg_sl ([.ref o_, .int a0])).length) Slot.unset).toArray = ls at hl ⊢
  have hl : lv_has ls 2 [(0, .ref o_), (1, .int a0)] := hl
  unfold eX1_alike at hd
  refine lv_iload_n (pc := 0) hx hb dX1_alike_0 rfl (lv_at hl 1 rfl) ?_
  obtain ⟨w1, hc2, hd⟩ := wt_bd_o hd
  refine kX1_isSort (pc := 1) hx hb hml hown hts hC hW hS hc2 hl.1 (Nat.le_of_ble_eq_true rfl) ⟨Nat.le_of_ble_eq_true rfl, Nat.le_of_ble_eq_true rfl⟩ ⟨Nat.le_of_ble_eq_true rfl, Nat.le_of_ble_eq_true rfl⟩ q978 dX1_alike_1 (fun H locs hW hS => ?_)
  obtain ⟨w3, hc4, hd⟩ := wt_bd_o hd
  refine kX1_need (pc := 4) hfl hx hb hml hown hts hC hW hS hc4 hl.1 (Nat.le_of_ble_eq_true rfl) ⟨Nat.le_of_ble_eq_true rfl, Nat.le_of_ble_eq_true rfl⟩ ⟨(Nat.le_of_ble_eq_true rfl), (Nat.le_of_ble_eq_true rfl)⟩ q676 dX1_alike_4 (fun x_ hx_ E_ ce_ q9_ H locs hXB hS hce hvn hfc => ?_) (fun o5 ho_ H locs hW hS => ?_)
  · have hd := wt_rs_r hx_ hd
    exact hx_out (fun z hz => (hno z hz).elim) hlocks hce hvn hfc (Option.some.inj hd) hXB hS (Nat.le_of_ble_eq_true rfl) (Nat.le_of_ble_eq_true rfl)
  · have hd := wt_rs_l ho_ hd
    refine lv_aload_n (pc := 7) hx hb dX1_alike_7 rfl (lv_at hl 0 rfl) ?_
    obtain ⟨ad6, h7, hd⟩ := wt_bd_o hd
    refine hr_get (pc := 8) hx hb hts hown hK hW (hgA_o h7) hf_0_0 (fun _ h => h) q534 dX1_alike_8 ?_
    obtain ⟨ad8, h9, hd⟩ := wt_bd_o hd
    refine hr_getN (pc := 11) hx hb hts hown hK hT hW (hgA_o h9) hf_1_3 (fun _ h => h) q132 dX1_alike_11 ?_
    refine lv_iload_n (pc := 14) hx hb dX1_alike_14 rfl (lv_at hl 1 rfl) ?_
    obtain ⟨z10, h11, hd⟩ := wt_bd_o hd
    obtain ⟨h12, hd⟩ := wt_ck_o hd
    refine hr_iald (pc := 15) hx hb hK hW h11 h12 dX1_alike_15 ?_
    refine vx_ret ?_
    exact hx_iret hx hb hr rfl hlocks ⟨(Option.some.inj hd), rfl⟩ hW hS dX1_alike_16 (Nat.le_of_ble_eq_true rfl) (Nat.le_of_ble_eq_true rfl)
theorem kX1_alike {p : Program} {l : Launch} {e : Env} {R : Room} {s : State} {m : MethodId} {args : Array Value} {below : List Frame} {meth : Method} {c : Code} {H : Heap} {locs : List Loc} {cells slots : Nat} {Q : State → Prop} {cc : ByteArray} {pc : Nat} {ls : Array Slot} {rest : List Value} {nL : Nat} {own : String} {index : Nat} {G : HG} {A : Nat → Prop} {τ : HP} {o_ : Nat} {a0 : Int32} {out_ : (Int32) ⊕ (Nat × Nat × HP)} (hfl : l.stackTraces = false) (hx : p.tables.exec = Jvm.exec) (hb : c.code = cc) (hml : c.maxLocals = nL) (hown : s.vm.findClass own = some m.cls) (hts : ∀ w ∈ lw_all, w.before args s = true) (hC : Hcx G A s) (hW : Hw G A τ H) (hS : va_S A s.heap H locs) (hrc : hcl τ o_ = some 0) (hd : eX1_alike τ o_ a0 = some out_) (hsz : ls.size = nL) (hrm : (rest.map fun v => v.category).sum ≤ 8) (hR : 8 ≤ R.frames ∧ 151 ≤ R.locals) (hcs : (cells + 1) ≤ R.cells ∧ (slots + 6) ≤ R.slots) (hlk : Cond.methodLink own index yX1_alike ∈ lw_all) (hdg : decode cc pc = .ok (.invokevirtual index, 3)) (kx : ∀ x_ : Nat × Nat × HP, Sum.inr x_ = out_ → ∀ (E : String) (ce : Cell) (q9 : Addr) (H1 : Heap) (locs1 : List Loc), hXb G A E q9 x_ H1 → va_S A s.heap H1 locs1 → H1[q9]? = some ce → ce.vm = .none → s.vm.findClass E = some ce.cls → vx_W p l e R s m args below meth c H1 locs1 (cells + 1) (slots + 6) Q (F0 m pc ls rest) q9) (kk : ∀ o_1 : Int32, Sum.inl o_1 = out_ → ∀ (H1 : Heap) (locs1 : List Loc), Hw G A τ H1 → va_S A s.heap H1 locs1 → W p l e R s m args below meth c H1 locs1 (cells + 1) (slots + 6) Q (F0 m (pc + 3) ls (.int o_1 :: rest))) : W p l e R s m args below meth c H locs cells slots Q (F0 m pc ls (.int a0 :: .ref o_ :: rest)) := by
  refine vx_calli (vx_runV (As := [.int a0]) (rest := rest) ⟨hx, hb, hml, hown, hts⟩ (wX1_alike l hfl hd) (cwV 1 hts (lw_V hlk q992 q993 q66 q994) rfl rfl rfl (by decide +kernel) hR) (hr_preV hC hW hS hrc rfl rfl) rfl rfl hsz rfl (lv_room hrm) hdg hcs) hS (fun _ _ h => h) (fun _ h => h) (fun _ _ h => h) (fun E ce q9 u t H1 locs1 ht hvm hp hB hz hk hS1 hce hvn hfc => ?_) (fun r u t H1 locs1 ht hvm hp hB hz hk hS1 => ?_)
  · rw [ht] at hB
    exact kx u hp E ce q9 H1 locs1 hB hS1 hce hvn hfc
  · have hW1 : Hw G A u t.heap := hB
    rw [ht] at hW1
    obtain ⟨hp, rfl⟩ := hp
    exact kk r hp H1 locs1 hW1 hS1
noncomputable def eX1_run (τ : HP) (o_ : Nat) (a0 : Int32) : Option ((Nat × HP) ⊕ (Nat × Nat × HP)) :=
  wt_bd (if a0 < 0 then (some (.inl ())) else (wt_bd (hgA τ o_ [0] 6) fun ad6 => wt_ck (hcl τ ad6 = some 13) <| wt_bd (eJ2_size τ ad6) fun w9 => if a0 < w9 then (wt_lt (hnew τ (.inr (8, [.null, .int 0, .null, .int 0, .int 0, .int 0, .null]))) fun τ12 => wt_bd (hgA τ12 o_ [0] 6) fun ad13 => wt_ck (hcl τ12 ad13 = some 13) <| wt_bd (eJ2_get τ12 ad13 a0) fun w16 => wt_ck (hcl τ12 w16 = some 13) <| wt_bd (eX11_init τ12 τ.2 o_ w16) fun w19 => some (.inr (.inl (τ.2, w19)))) else (some (.inl ())))) fun w1 => wt_rs w1 (fun w1 => some (.inr (101, 0, τ))) (fun z_ => some z_)
set_option maxHeartbeats 4000000 in
theorem wX1_run (l : Launch) (hfl : l.stackTraces = false) {G : HG} {A : Nat → Prop} {τ : HP} {o_ : Nat} {a0 : Int32} {out_ : (Nat × HP) ⊕ (Nat × Nat × HP)} (hd : eX1_run τ o_ a0 = some out_) : vx_Met l yX1_run (ws_ yX1_run cX1_run 2 (some (.object "WoolThreads$Run"))) ({ frames := 6, cells := 1, slots := 7, locals := 110 }) (hPc G A τ [.ref o_, .int a0]) (hXr G A (fun r u => Sum.inl (r, u) = out_)) (hXX G A out_) 1 7 A := by
  refine vx_ofW (cc := cX1_run) (maxL := 2) (ret := (some (.object "WoolThreads$Run"))) (by decide) rfl ?_
  intro p_ e_ s_ m_ args_ below_ meth_ c_ s₁_ B hml hno hv
  obtain ⟨rfl, hW, hC⟩ := hv
  have hx := B.exec
  have hb := B.bytes
  have hr := B.returns
  have hts := atoms_spec (ws := (ws_ yX1_run cX1_run 2 (some (.object "WoolThreads$Run")))) B.pre
  have hts : ∀ w ∈ lw_all, w.before _ s_ = true := fun w h => hts w (List.mem_cons_of_mem _ h)
  have hown : s_.vm.findClass RX1 = some m_.cls := findClass_of_methodNamed B.named
  have hlocks := B.notSynchronized
  have hK := hC.1
  have hT := hC.2.1
  have hL := hC.2.2.1
  have hZ := hC.2.2.2.2.1
  have hA := hC.2.2.2.2.2
  have hS : va_S A s_.heap s_.heap [] := va_S.rf
  have hl := lv_entry ([.ref o_, .int a0]) (n := 2) (Nat.le_of_ble_eq_true rfl)
  rw [lg_entry_eq]
  generalize (lg_sl ([.ref o_, .int a0]) ++ List.replicate (2 - (lg_sl ([.ref o_, .int a0])).length) Slot.unset).toArray = ls at hl ⊢
  have hl : lv_has ls 2 [(0, .ref o_), (1, .int a0)] := hl
  unfold eX1_run at hd
  refine lv_iload_n (pc := 0) hx hb dX1_run_0 rfl (lv_at hl 1 rfl) ?_
  obtain ⟨w1, hj2, hq3⟩ := wt_bd_o hd
  have hX4 : ∀ w1_ : Unit, (Sum.inl w1_ : (Unit) ⊕ _) = w1 → ∀ (H : Heap) (locs : List Loc) (ls : Array Slot), Hw G A τ H → va_S A s_.heap H locs → lv_has ls 2 [] → W p_ l e_ (headSpec (ws_ yX1_run cX1_run 2 (some (.object "WoolThreads$Run"))) ({ frames := 6, cells := 1, slots := 7, locals := 110 })).room s_ m_ ([.ref o_, .int a0] : List Value).toArray below_ meth_ c_ H locs 0 0 (vx_MQ below_ (hXr G A (fun r u => Sum.inl (r, u) = out_)) (hXX G A out_) ([.ref o_, .int a0] : List Value).toArray s_ 1 7 A) (F0 m_ 15 ls []) := by
    intro w1_ hw_
    have hd := wt_rs_l hw_ hq3
    clear hj2 hq3
    intro H locs ls hW hS hl
    exact hx_throw_nse_X1 (pc := 15) hx hb hfl hts hown hC hW hS (hl.1.trans hml.symm) hlocks hno (Option.some.inj hd) dX1_run_15 dX1_run_18 dX1_run_19 dX1_run_22 (Nat.le_of_ble_eq_true rfl) (Nat.le_of_ble_eq_true rfl) ⟨Nat.le_of_ble_eq_true rfl, Nat.le_of_ble_eq_true rfl⟩ (Nat.le_of_ble_eq_true rfl) (Nat.le_of_ble_eq_true rfl)
  have hd := hj2
  refine lv_if_lt (pc := 1) (tgt := 15) hx hb dX1_run_1 (by decide) (fun c5 => ?_) (fun c5 => ?_)
  · have hd := wt_it hd c5
    exact hX4 () (Option.some.inj hd) _ _ _ hW hS (lv_sub hl [] rfl)
  · have hd := wt_if hd c5
    refine lv_iload_n (pc := 4) hx hb dX1_run_4 rfl (lv_at hl 1 rfl) ?_
    refine lv_aload_n (pc := 5) hx hb dX1_run_5 rfl (lv_at hl 0 rfl) ?_
    obtain ⟨ad6, h7, hd⟩ := wt_bd_o hd
    refine hr_get (pc := 6) hx hb hts hown hK hW (hgA_o h7) hf_0_6 (fun _ h => h) q542 dX1_run_6 ?_
    obtain ⟨h8, hd⟩ := wt_ck_o hd
    obtain ⟨w9, hc10, hd⟩ := wt_bd_o hd
    refine kJ2_size (pc := 9) hx hb hml hown hts hC hW hS h8 hc10 hl.1 (Nat.le_of_ble_eq_true rfl) ⟨Nat.le_of_ble_eq_true rfl, Nat.le_of_ble_eq_true rfl⟩ ⟨Nat.le_of_ble_eq_true rfl, Nat.le_of_ble_eq_true rfl⟩ q666 dX1_run_9 (fun H locs hW hS => ?_)
    refine lv_icmp_lt (pc := 12) (tgt := 23) hx hb dX1_run_12 (by decide) (fun c11 => ?_) (fun c11 => ?_)
    · have hd := wt_it hd c11
      obtain ⟨τ12, eτ12, hd⟩ := wt_lt_o hd
      refine hr_new (pc := 23) (ci := 8) (fs := [.null, .int 0, .null, .int 0, .int 0, .int 0, .null]) hx hb hts hown hK hW hS hA rfl tyX11 tyX11_ok (by decide +kernel) q1022 q1023 q97 eτ12 (Nat.le_of_ble_eq_true rfl) (Nat.le_of_ble_eq_true rfl) dX1_run_23 (fun H hW hS => ?_)
      refine lv_dup (pc := 26) hx hb dX1_run_26 rfl ?_
      refine lv_aload_n (pc := 27) hx hb dX1_run_27 rfl (lv_at hl 0 rfl) ?_
      refine lv_aload_n (pc := 28) hx hb dX1_run_28 rfl (lv_at hl 0 rfl) ?_
      obtain ⟨ad13, h14, hd⟩ := wt_bd_o hd
      refine hr_get (pc := 29) hx hb hts hown hK hW (hgA_o h14) hf_0_6 (fun _ h => h) q542 dX1_run_29 ?_
      refine lv_iload_n (pc := 32) hx hb dX1_run_32 rfl (lv_at hl 1 rfl) ?_
      obtain ⟨h15, hd⟩ := wt_ck_o hd
      obtain ⟨w16, hc17, hd⟩ := wt_bd_o hd
      refine kJ2_get (pc := 33) hx hb hml hown hts hC hW hS h15 hc17 hl.1 (Nat.le_of_ble_eq_true rfl) ⟨Nat.le_of_ble_eq_true rfl, Nat.le_of_ble_eq_true rfl⟩ ⟨Nat.le_of_ble_eq_true rfl, Nat.le_of_ble_eq_true rfl⟩ q1024 dX1_run_33 (fun H locs hW hS => ?_)
      obtain ⟨h18, hd⟩ := wt_ck_o hd
      refine hr_cast (pc := 36) (ci := 13) hx hb hts hown hK hW h18 rfl rfl q531 dX1_run_36 ?_
      obtain ⟨w19, hc20, hd⟩ := wt_bd_o hd
      refine kX11_init (pc := 39) hx hb hml hown hts hC hW hS hc20 hl.1 (Nat.le_of_ble_eq_true rfl) ⟨Nat.le_of_ble_eq_true rfl, Nat.le_of_ble_eq_true rfl⟩ ⟨Nat.le_of_ble_eq_true rfl, Nat.le_of_ble_eq_true rfl⟩ q1025 dX1_run_39 (fun H locs hW hS => ?_)
      have hd := wt_rs_r (Option.some.inj hd) hq3
      refine vx_ret ?_
      exact hx_aret hx hb hr (Or.inl ⟨_, rfl⟩) hlocks (Option.some.inj hd) hW hS dX1_run_42 (Nat.le_of_ble_eq_true rfl) (Nat.le_of_ble_eq_true rfl)
    · have hd := wt_if hd c11
      exact hX4 () (Option.some.inj hd) _ _ _ hW hS (lv_sub hl [] rfl)
theorem kX1_run {p : Program} {l : Launch} {e : Env} {R : Room} {s : State} {m : MethodId} {args : Array Value} {below : List Frame} {meth : Method} {c : Code} {H : Heap} {locs : List Loc} {cells slots : Nat} {Q : State → Prop} {cc : ByteArray} {pc : Nat} {ls : Array Slot} {rest : List Value} {nL : Nat} {own : String} {index : Nat} {G : HG} {A : Nat → Prop} {τ : HP} {o_ : Nat} {a0 : Int32} {out_ : (Nat × HP) ⊕ (Nat × Nat × HP)} (hfl : l.stackTraces = false) (hx : p.tables.exec = Jvm.exec) (hb : c.code = cc) (hml : c.maxLocals = nL) (hown : s.vm.findClass own = some m.cls) (hts : ∀ w ∈ lw_all, w.before args s = true) (hC : Hcx G A s) (hW : Hw G A τ H) (hS : va_S A s.heap H locs) (hrc : hcl τ o_ = some 0) (hd : eX1_run τ o_ a0 = some out_) (hsz : ls.size = nL) (hrm : (rest.map fun v => v.category).sum ≤ 8) (hR : 7 ≤ R.frames ∧ 131 ≤ R.locals) (hcs : (cells + 1) ≤ R.cells ∧ (slots + 7) ≤ R.slots) (hlk : Cond.methodLink own index yX1_run ∈ lw_all) (hdg : decode cc pc = .ok (.invokevirtual index, 3)) (kx : ∀ x_ : Nat × Nat × HP, Sum.inr x_ = out_ → ∀ (E : String) (ce : Cell) (q9 : Addr) (H1 : Heap) (locs1 : List Loc), hXb G A E q9 x_ H1 → va_S A s.heap H1 locs1 → H1[q9]? = some ce → ce.vm = .none → s.vm.findClass E = some ce.cls → vx_W p l e R s m args below meth c H1 locs1 (cells + 1) (slots + 7) Q (F0 m pc ls rest) q9) (kk : ∀ o_1 : Nat × HP, Sum.inl o_1 = out_ → ∀ (H1 : Heap) (locs1 : List Loc), Hw G A o_1.2 H1 → va_S A s.heap H1 locs1 → W p l e R s m args below meth c H1 locs1 (cells + 1) (slots + 7) Q (F0 m (pc + 3) ls (.ref o_1.1 :: rest))) : W p l e R s m args below meth c H locs cells slots Q (F0 m pc ls (.int a0 :: .ref o_ :: rest)) := by
  refine vx_callr (vx_runV (As := [.int a0]) (rest := rest) ⟨hx, hb, hml, hown, hts⟩ (wX1_run l hfl hd) (cwV 1 hts (lw_V hlk q1005 qs15 q66 q1006) rfl rfl rfl (by decide +kernel) hR) (hr_preV hC hW hS hrc rfl rfl) rfl rfl hsz rfl (lv_room hrm) hdg hcs) hS (fun _ _ h => h) (fun _ h => h) (fun _ _ h => h) (fun E ce q9 u t H1 locs1 ht hvm hp hB hz hk hS1 hce hvn hfc => ?_) (fun u ra t H1 locs1 ht hvm hp hB hz hk hS1 => ?_)
  · rw [ht] at hB
    exact kx u hp E ce q9 H1 locs1 hB hS1 hce hvn hfc
  · have hW1 : Hw G A u t.heap := hB.2
    rw [ht] at hW1
    exact kk (ra, u) hB.1 H1 locs1 hW1 hS1
noncomputable def eX1_isPlace (a0 : Int32) : Option (Int32) :=
  if a0 < 0 then (some (0 : Int32)) else (if (10 : Int32) ≤ a0 then (some (0 : Int32)) else (some (1 : Int32)))
set_option maxHeartbeats 4000000 in
theorem wX1_isPlace (l : Launch) {G : HG} {A : Nat → Prop} {τ : HP} {a0 : Int32} {out_ : Int32} (hd : eX1_isPlace a0 = some out_) : Met l yX1_isPlace (ws_ yX1_isPlace cX1_isPlace 1 (some .boolean)) ({ frames := 0, cells := 0, slots := 0, locals := 0 }) (hPc G A τ [.int a0]) (hQi G out_ τ A) 0 0 A := by
  refine Met.ofW (cc := cX1_isPlace) (maxL := 1) (ret := (some .boolean)) (by decide) rfl ?_
  intro p_ e_ s_ m_ args_ below_ meth_ c_ s₁_ B hml hv
  obtain ⟨rfl, hW, hC⟩ := hv
  have hx := B.exec
  have hb := B.bytes
  have hr := B.returns
  have hts := atoms_spec (ws := (ws_ yX1_isPlace cX1_isPlace 1 (some .boolean))) B.pre
  have hts : ∀ w ∈ lw_all, w.before _ s_ = true := fun w h => hts w (List.mem_cons_of_mem _ h)
  have hown : s_.vm.findClass RX1 = some m_.cls := findClass_of_methodNamed B.named
  have hlocks := B.notSynchronized
  have hK := hC.1
  have hT := hC.2.1
  have hL := hC.2.2.1
  have hZ := hC.2.2.2.2.1
  have hA := hC.2.2.2.2.2
  have hS : va_S A s_.heap s_.heap [] := va_S.rf
  have hl := lv_entry ([.int a0]) (n := 1) (Nat.le_of_ble_eq_true rfl)
  rw [lg_entry_eq]
  generalize (lg_sl ([.int a0]) ++ List.replicate (1 - (lg_sl ([.int a0])).length) Slot.unset).toArray = ls at hl ⊢
  have hl : lv_has ls 1 [(0, .int a0)] := hl
  unfold eX1_isPlace at hd
  refine lv_iload_n (pc := 0) hx hb dX1_isPlace_0 rfl (lv_at hl 0 rfl) ?_
  refine lv_if_lt (pc := 1) (tgt := 14) hx hb dX1_isPlace_1 (by decide) (fun c1 => ?_) (fun c1 => ?_)
  · have hd := wt_it hd c1
    refine lv_iconst (pc := 14) (v := 0) hx hb dX1_isPlace_14 (by decide) ?_
    exact hr_iret hx hb hr rfl hlocks (Option.some.inj hd) rfl hW hS dX1_isPlace_15 (Nat.le_of_ble_eq_true rfl) (Nat.le_of_ble_eq_true rfl)
  · have hd := wt_if hd c1
    refine lv_iload_n (pc := 4) hx hb dX1_isPlace_4 rfl (lv_at hl 0 rfl) ?_
    refine lv_bipush (pc := 5) (v := 10) hx hb dX1_isPlace_5 (by decide) ?_
    refine lv_icmp_ge (pc := 7) (tgt := 14) hx hb dX1_isPlace_7 (by decide) (fun c2 => ?_) (fun c2 => ?_)
    · have hd := wt_it hd c2
      refine lv_iconst (pc := 14) (v := 0) hx hb dX1_isPlace_14 (by decide) ?_
      exact hr_iret hx hb hr rfl hlocks (Option.some.inj hd) rfl hW hS dX1_isPlace_15 (Nat.le_of_ble_eq_true rfl) (Nat.le_of_ble_eq_true rfl)
    · have hd := wt_if hd c2
      refine lv_iconst (pc := 10) (v := 1) hx hb dX1_isPlace_10 (by decide) ?_
      refine lv_goto (pc := 11) (tgt := 15) hx hb dX1_isPlace_11 (by decide) ?_
      exact hr_iret hx hb hr rfl hlocks (Option.some.inj hd) rfl hW hS dX1_isPlace_15 (Nat.le_of_ble_eq_true rfl) (Nat.le_of_ble_eq_true rfl)
theorem kX1_isPlace {p : Program} {l : Launch} {e : Env} {R : Room} {s : State} {m : MethodId} {args : Array Value} {below : List Frame} {meth : Method} {c : Code} {H : Heap} {locs : List Loc} {cells slots : Nat} {Q : State → Prop} {cc : ByteArray} {pc : Nat} {ls : Array Slot} {rest : List Value} {nL : Nat} {own : String} {index : Nat} {G : HG} {A : Nat → Prop} {τ : HP} {a0 : Int32} {out_ : Int32} (hx : p.tables.exec = Jvm.exec) (hb : c.code = cc) (hml : c.maxLocals = nL) (hown : s.vm.findClass own = some m.cls) (hts : ∀ w ∈ lw_all, w.before args s = true) (hC : Hcx G A s) (hW : Hw G A τ H) (hS : va_S A s.heap H locs) (hd : eX1_isPlace a0 = some out_) (hsz : ls.size = nL) (hrm : (rest.map fun v => v.category).sum ≤ 8) (hR : 1 ≤ R.frames ∧ 20 ≤ R.locals) (hcs : cells ≤ R.cells ∧ slots ≤ R.slots) (hlk : Cond.methodLink own index yX1_isPlace ∈ lw_all) (hdg : decode cc pc = .ok (.invokestatic index, 3)) (kk : ∀ (H1 : Heap) (locs1 : List Loc), Hw G A τ H1 → va_S A s.heap H1 locs1 → W p l e R s m args below meth c H1 locs1 cells slots Q (F0 m (pc + 3) ls (.int out_ :: rest))) : W p l e R s m args below meth c H locs cells slots Q (F0 m pc ls (.int a0 :: rest)) := by
  refine va_calli (va_runS (As := [.int a0]) (rest := rest) ⟨hx, hb, hml, hown, hts⟩ (wX1_isPlace l hd) (va_cwS 1 hts (lw_S hlk q1058 q66 q1059) rfl rfl rfl (by decide +kernel) hR) (hr_preS hC hW hS) rfl rfl hsz rfl (lv_room hrm) hdg hcs) hS (fun _ _ h => h) (fun _ h => h) (fun r u t H1 locs1 ht hvm hp hB hz hk hS1 => ?_)
  have hp : r = out_ := hp
  subst hp
  have hW1 : Hw G A τ t.heap := hB
  rw [ht] at hW1
  exact kk H1 locs1 hW1 hS1
noncomputable def eX1_isHour (a0 : Int32) : Option (Int32) :=
  if a0 < 0 then (some (0 : Int32)) else (if (99 : Int32) < a0 then (some (0 : Int32)) else (some (1 : Int32)))
set_option maxHeartbeats 4000000 in
theorem wX1_isHour (l : Launch) {G : HG} {A : Nat → Prop} {τ : HP} {a0 : Int32} {out_ : Int32} (hd : eX1_isHour a0 = some out_) : Met l yX1_isHour (ws_ yX1_isHour cX1_isHour 1 (some .boolean)) ({ frames := 0, cells := 0, slots := 0, locals := 0 }) (hPc G A τ [.int a0]) (hQi G out_ τ A) 0 0 A := by
  refine Met.ofW (cc := cX1_isHour) (maxL := 1) (ret := (some .boolean)) (by decide) rfl ?_
  intro p_ e_ s_ m_ args_ below_ meth_ c_ s₁_ B hml hv
  obtain ⟨rfl, hW, hC⟩ := hv
  have hx := B.exec
  have hb := B.bytes
  have hr := B.returns
  have hts := atoms_spec (ws := (ws_ yX1_isHour cX1_isHour 1 (some .boolean))) B.pre
  have hts : ∀ w ∈ lw_all, w.before _ s_ = true := fun w h => hts w (List.mem_cons_of_mem _ h)
  have hown : s_.vm.findClass RX1 = some m_.cls := findClass_of_methodNamed B.named
  have hlocks := B.notSynchronized
  have hK := hC.1
  have hT := hC.2.1
  have hL := hC.2.2.1
  have hZ := hC.2.2.2.2.1
  have hA := hC.2.2.2.2.2
  have hS : va_S A s_.heap s_.heap [] := va_S.rf
  have hl := lv_entry ([.int a0]) (n := 1) (Nat.le_of_ble_eq_true rfl)
  rw [lg_entry_eq]
  generalize (lg_sl ([.int a0]) ++ List.replicate (1 - (lg_sl ([.int a0])).length) Slot.unset).toArray = ls at hl ⊢
  have hl : lv_has ls 1 [(0, .int a0)] := hl
  unfold eX1_isHour at hd
  refine lv_iload_n (pc := 0) hx hb dX1_isHour_0 rfl (lv_at hl 0 rfl) ?_
  refine lv_if_lt (pc := 1) (tgt := 14) hx hb dX1_isHour_1 (by decide) (fun c1 => ?_) (fun c1 => ?_)
  · have hd := wt_it hd c1
    refine lv_iconst (pc := 14) (v := 0) hx hb dX1_isHour_14 (by decide) ?_
    exact hr_iret hx hb hr rfl hlocks (Option.some.inj hd) rfl hW hS dX1_isHour_15 (Nat.le_of_ble_eq_true rfl) (Nat.le_of_ble_eq_true rfl)
  · have hd := wt_if hd c1
    refine lv_iload_n (pc := 4) hx hb dX1_isHour_4 rfl (lv_at hl 0 rfl) ?_
    refine lv_bipush (pc := 5) (v := 99) hx hb dX1_isHour_5 (by decide) ?_
    refine lv_icmp_gt (pc := 7) (tgt := 14) hx hb dX1_isHour_7 (by decide) (fun c2 => ?_) (fun c2 => ?_)
    · have hd := wt_it hd c2
      refine lv_iconst (pc := 14) (v := 0) hx hb dX1_isHour_14 (by decide) ?_
      exact hr_iret hx hb hr rfl hlocks (Option.some.inj hd) rfl hW hS dX1_isHour_15 (Nat.le_of_ble_eq_true rfl) (Nat.le_of_ble_eq_true rfl)
    · have hd := wt_if hd c2
      refine lv_iconst (pc := 10) (v := 1) hx hb dX1_isHour_10 (by decide) ?_
      refine lv_goto (pc := 11) (tgt := 15) hx hb dX1_isHour_11 (by decide) ?_
      exact hr_iret hx hb hr rfl hlocks (Option.some.inj hd) rfl hW hS dX1_isHour_15 (Nat.le_of_ble_eq_true rfl) (Nat.le_of_ble_eq_true rfl)
theorem kX1_isHour {p : Program} {l : Launch} {e : Env} {R : Room} {s : State} {m : MethodId} {args : Array Value} {below : List Frame} {meth : Method} {c : Code} {H : Heap} {locs : List Loc} {cells slots : Nat} {Q : State → Prop} {cc : ByteArray} {pc : Nat} {ls : Array Slot} {rest : List Value} {nL : Nat} {own : String} {index : Nat} {G : HG} {A : Nat → Prop} {τ : HP} {a0 : Int32} {out_ : Int32} (hx : p.tables.exec = Jvm.exec) (hb : c.code = cc) (hml : c.maxLocals = nL) (hown : s.vm.findClass own = some m.cls) (hts : ∀ w ∈ lw_all, w.before args s = true) (hC : Hcx G A s) (hW : Hw G A τ H) (hS : va_S A s.heap H locs) (hd : eX1_isHour a0 = some out_) (hsz : ls.size = nL) (hrm : (rest.map fun v => v.category).sum ≤ 8) (hR : 1 ≤ R.frames ∧ 20 ≤ R.locals) (hcs : cells ≤ R.cells ∧ slots ≤ R.slots) (hlk : Cond.methodLink own index yX1_isHour ∈ lw_all) (hdg : decode cc pc = .ok (.invokestatic index, 3)) (kk : ∀ (H1 : Heap) (locs1 : List Loc), Hw G A τ H1 → va_S A s.heap H1 locs1 → W p l e R s m args below meth c H1 locs1 cells slots Q (F0 m (pc + 3) ls (.int out_ :: rest))) : W p l e R s m args below meth c H locs cells slots Q (F0 m pc ls (.int a0 :: rest)) := by
  refine va_calli (va_runS (As := [.int a0]) (rest := rest) ⟨hx, hb, hml, hown, hts⟩ (wX1_isHour l hd) (va_cwS 1 hts (lw_S hlk q1061 q66 q1062) rfl rfl rfl (by decide +kernel) hR) (hr_preS hC hW hS) rfl rfl hsz rfl (lv_room hrm) hdg hcs) hS (fun _ _ h => h) (fun _ h => h) (fun r u t H1 locs1 ht hvm hp hB hz hk hS1 => ?_)
  have hp : r = out_ := hp
  subst hp
  have hW1 : Hw G A τ t.heap := hB
  rw [ht] at hW1
  exact kk H1 locs1 hW1 hS1
noncomputable def eX1_lies (τ : HP) (o_ : Nat) (a0 : Int32) (a1 : Int32) (a2 : Int32) (a3 : Int32) : Option ((Int32 × HP) ⊕ (Nat × Nat × HP)) :=
  wt_ck (hcl τ o_ = some 0) <| wt_bd (eX1_run τ o_ a0) fun w2 => wt_rs w2 (fun o4 => wt_bd (eX1_isPlace a1) fun w5 => wt_bd (if w5 = 0 then (some (.inl ())) else (wt_bd (eX1_isSort a2) fun w12 => if w12 = 0 then (some (.inl ())) else (wt_bd (eX1_isHour a3) fun w15 => if w15 = 0 then (some (.inl ())) else (wt_bd (eX1_need o4.2 (1 : Int32)) fun w18 => wt_rs w18 (fun o20 => wt_ck (hcl o4.2 o4.1 = some 8) <| wt_bd (eX11_at o4.2 o4.1 a3) fun w22 => wt_bd (hgA w22.2 w22.1 [9] 1) fun ad24 => wt_bd (haI w22.2 ad24 0) fun z26 => wt_ck (vp_in (((10 : Int32) * a1) + a2) z26.1) <| some (.inr (.inl ((z26.2 (((10 : Int32) * a1) + a2).toNatClampNeg), w22.2)))) (fun x_ => some (.inr (.inr x_))))))) fun w7 => wt_rs w7 (fun w7 => wt_bd (eX1_need o4.2 (0 : Int32)) fun w29 => wt_rs w29 (fun o31 => wt_ck (hcl o4.2 o4.1 = some 8) <| wt_bd (eX11_at o4.2 o4.1 a3) fun w33 => wt_bd (hgA w33.2 w33.1 [9] 1) fun ad35 => wt_bd (haI w33.2 ad35 0) fun z37 => wt_ck (vp_in (((10 : Int32) * a1) + a2) z37.1) <| some (.inl ((z37.2 (((10 : Int32) * a1) + a2).toNatClampNeg), w33.2))) (fun x_ => some (.inr x_))) (fun z_ => some z_)) (fun x_ => some (.inr x_))
set_option maxHeartbeats 4000000 in
theorem wX1_lies (l : Launch) (hfl : l.stackTraces = false) {G : HG} {A : Nat → Prop} {τ : HP} {o_ : Nat} {a0 : Int32} {a1 : Int32} {a2 : Int32} {a3 : Int32} {out_ : (Int32 × HP) ⊕ (Nat × Nat × HP)} (hd : eX1_lies τ o_ a0 a1 a2 a3 = some out_) : vx_Met l yX1_lies (ws_ yX1_lies cX1_lies 6 (some .int)) ({ frames := 7, cells := 5, slots := 126, locals := 132 }) (hPc G A τ [.ref o_, .int a0, .int a1, .int a2, .int a3]) (hXi G A (fun r u => Sum.inl (r, u) = out_)) (hXX G A out_) 5 126 A := by
  refine vx_ofW (cc := cX1_lies) (maxL := 6) (ret := (some .int)) (by decide) rfl ?_
  intro p_ e_ s_ m_ args_ below_ meth_ c_ s₁_ B hml hno hv
  obtain ⟨rfl, hW, hC⟩ := hv
  have hx := B.exec
  have hb := B.bytes
  have hr := B.returns
  have hts := atoms_spec (ws := (ws_ yX1_lies cX1_lies 6 (some .int))) B.pre
  have hts : ∀ w ∈ lw_all, w.before _ s_ = true := fun w h => hts w (List.mem_cons_of_mem _ h)
  have hown : s_.vm.findClass RX1 = some m_.cls := findClass_of_methodNamed B.named
  have hlocks := B.notSynchronized
  have hK := hC.1
  have hT := hC.2.1
  have hL := hC.2.2.1
  have hZ := hC.2.2.2.2.1
  have hA := hC.2.2.2.2.2
  have hS : va_S A s_.heap s_.heap [] := va_S.rf
  have hl := lv_entry ([.ref o_, .int a0, .int a1, .int a2, .int a3]) (n := 6) (Nat.le_of_ble_eq_true rfl)
  rw [lg_entry_eq]
  generalize (lg_sl ([.ref o_, .int a0, .int a1, .int a2, .int a3]) ++ List.replicate (6 - (lg_sl ([.ref o_, .int a0, .int a1, .int a2, .int a3])).length) Slot.unset).toArray = ls at hl ⊢
  have hl : lv_has ls 6 [(0, .ref o_), (1, .int a0), (2, .int a1), (3, .int a2), (4, .int a3)] := hl
  unfold eX1_lies at hd
  refine lv_aload_n (pc := 0) hx hb dX1_lies_0 rfl (lv_at hl 0 rfl) ?_
  refine lv_iload_n (pc := 1) hx hb dX1_lies_1 rfl (lv_at hl 1 rfl) ?_
  obtain ⟨h1, hd⟩ := wt_ck_o hd
  obtain ⟨w2, hc3, hd⟩ := wt_bd_o hd
  refine kX1_run (pc := 2) hfl hx hb hml hown hts hC hW hS h1 hc3 hl.1 (Nat.le_of_ble_eq_true rfl) ⟨Nat.le_of_ble_eq_true rfl, Nat.le_of_ble_eq_true rfl⟩ ⟨(Nat.le_of_ble_eq_true rfl), (Nat.le_of_ble_eq_true rfl)⟩ q1003 dX1_lies_2 (fun x_ hx_ E_ ce_ q9_ H locs hXB hS hce hvn hfc => ?_) (fun o4 ho_ H locs hW hS => ?_)
  · have hd := wt_rs_r hx_ hd
    exact hx_out (fun z hz => (hno z hz).elim) hlocks hce hvn hfc (Option.some.inj hd) hXB hS (Nat.le_of_ble_eq_true rfl) (Nat.le_of_ble_eq_true rfl)
  · have hd := wt_rs_l ho_ hd
    refine lv_astore (pc := 5) (lv' := [(5, .ref o4.1), (0, .ref o_), (1, .int a0), (2, .int a1), (3, .int a2), (4, .int a3)]) hx hb dX1_lies_5 hl (by decide) rfl (fun ls hl => ?_)
    refine lv_iload_n (pc := 7) hx hb dX1_lies_7 rfl (lv_at hl 3 rfl) ?_
    obtain ⟨w5, hc6, hd⟩ := wt_bd_o hd
    refine kX1_isPlace (pc := 8) hx hb hml hown hts hC hW hS hc6 hl.1 (Nat.le_of_ble_eq_true rfl) ⟨Nat.le_of_ble_eq_true rfl, Nat.le_of_ble_eq_true rfl⟩ ⟨Nat.le_of_ble_eq_true rfl, Nat.le_of_ble_eq_true rfl⟩ q1057 dX1_lies_8 (fun H locs hW hS => ?_)
    obtain ⟨w7, hj8, hq9⟩ := wt_bd_o hd
    have hX10 : ∀ w7_ : Unit, (Sum.inl w7_ : (Unit) ⊕ _) = w7 → ∀ (H : Heap) (locs : List Loc) (ls : Array Slot), Hw G A o4.2 H → va_S A s_.heap H locs → lv_has ls 6 [(2, .int a1), (3, .int a2), (4, .int a3), (5, .ref o4.1)] → W p_ l e_ (headSpec (ws_ yX1_lies cX1_lies 6 (some .int)) ({ frames := 7, cells := 5, slots := 126, locals := 132 })).room s_ m_ ([.ref o_, .int a0, .int a1, .int a2, .int a3] : List Value).toArray below_ meth_ c_ H locs 1 7 (vx_MQ below_ (hXi G A (fun r u => Sum.inl (r, u) = out_)) (hXX G A out_) ([.ref o_, .int a0, .int a1, .int a2, .int a3] : List Value).toArray s_ 5 126 A) (F0 m_ 33 ls []) := by
      intro w7_ hw_
      have hd := wt_rs_l hw_ hq9
      clear hj8 hq9
      intro H locs ls hW hS hl
      refine lv_iconst (pc := 33) (v := 0) hx hb dX1_lies_33 (by decide) ?_
      obtain ⟨w29, hc30, hd⟩ := wt_bd_o hd
      refine kX1_need (pc := 34) hfl hx hb hml hown hts hC hW hS hc30 hl.1 (Nat.le_of_ble_eq_true rfl) ⟨Nat.le_of_ble_eq_true rfl, Nat.le_of_ble_eq_true rfl⟩ ⟨(Nat.le_of_ble_eq_true rfl), (Nat.le_of_ble_eq_true rfl)⟩ q676 dX1_lies_34 (fun x_ hx_ E_ ce_ q9_ H locs hXB hS hce hvn hfc => ?_) (fun o31 ho_ H locs hW hS => ?_)
      · have hd := wt_rs_r hx_ hd
        exact hx_out (fun z hz => (hno z hz).elim) hlocks hce hvn hfc (Option.some.inj hd) hXB hS (Nat.le_of_ble_eq_true rfl) (Nat.le_of_ble_eq_true rfl)
      · have hd := wt_rs_l ho_ hd
        refine lv_aload (pc := 37) hx hb dX1_lies_37 (lv_at hl 3 rfl) ?_
        refine lv_iload (pc := 39) hx hb dX1_lies_39 (lv_at hl 2 rfl) ?_
        obtain ⟨h32, hd⟩ := wt_ck_o hd
        obtain ⟨w33, hc34, hd⟩ := wt_bd_o hd
        refine kX11_at (pc := 41) hx hb hml hown hts hC hW hS h32 hc34 hl.1 (Nat.le_of_ble_eq_true rfl) ⟨Nat.le_of_ble_eq_true rfl, Nat.le_of_ble_eq_true rfl⟩ ⟨(Nat.le_of_ble_eq_true rfl), (Nat.le_of_ble_eq_true rfl)⟩ q1063 dX1_lies_41 (fun H locs hW hS => ?_)
        obtain ⟨ad35, h36, hd⟩ := wt_bd_o hd
        refine hr_getN (pc := 44) hx hb hts hown hK hT hW (hgA_o h36) hf_9_1 (fun _ h => h) q1080 dX1_lies_44 ?_
        refine lv_bipush (pc := 47) (v := 10) hx hb dX1_lies_47 (by decide) ?_
        refine lv_iload_n (pc := 49) hx hb dX1_lies_49 rfl (lv_at hl 0 rfl) ?_
        refine lv_imul (pc := 50) hx hb dX1_lies_50 ?_
        refine lv_iload_n (pc := 51) hx hb dX1_lies_51 rfl (lv_at hl 1 rfl) ?_
        refine lv_iadd (pc := 52) hx hb dX1_lies_52 ?_
        obtain ⟨z37, h38, hd⟩ := wt_bd_o hd
        obtain ⟨h39, hd⟩ := wt_ck_o hd
        refine hr_iald (pc := 53) hx hb hK hW h38 h39 dX1_lies_53 ?_
        refine vx_ret ?_
        exact hx_iret hx hb hr rfl hlocks (Option.some.inj hd) hW hS dX1_lies_54 (Nat.le_of_ble_eq_true rfl) (Nat.le_of_ble_eq_true rfl)
    have hd := hj8
    refine lv_if_eq (pc := 11) (tgt := 33) hx hb dX1_lies_11 (by decide) (fun c11 => ?_) (fun c11 => ?_)
    · have hd := wt_it hd c11
      exact hX10 () (Option.some.inj hd) _ _ _ hW hS (lv_sub hl [3, 4, 5, 0] rfl)
    · have hd := wt_if hd c11
      refine lv_iload_n (pc := 14) hx hb dX1_lies_14 rfl (lv_at hl 4 rfl) ?_
      obtain ⟨w12, hc13, hd⟩ := wt_bd_o hd
      refine kX1_isSort (pc := 15) hx hb hml hown hts hC hW hS hc13 hl.1 (Nat.le_of_ble_eq_true rfl) ⟨Nat.le_of_ble_eq_true rfl, Nat.le_of_ble_eq_true rfl⟩ ⟨Nat.le_of_ble_eq_true rfl, Nat.le_of_ble_eq_true rfl⟩ q978 dX1_lies_15 (fun H locs hW hS => ?_)
      refine lv_if_eq (pc := 18) (tgt := 33) hx hb dX1_lies_18 (by decide) (fun c14 => ?_) (fun c14 => ?_)
      · have hd := wt_it hd c14
        exact hX10 () (Option.some.inj hd) _ _ _ hW hS (lv_sub hl [3, 4, 5, 0] rfl)
      · have hd := wt_if hd c14
        refine lv_iload (pc := 21) hx hb dX1_lies_21 (lv_at hl 5 rfl) ?_
        obtain ⟨w15, hc16, hd⟩ := wt_bd_o hd
        refine kX1_isHour (pc := 23) hx hb hml hown hts hC hW hS hc16 hl.1 (Nat.le_of_ble_eq_true rfl) ⟨Nat.le_of_ble_eq_true rfl, Nat.le_of_ble_eq_true rfl⟩ ⟨Nat.le_of_ble_eq_true rfl, Nat.le_of_ble_eq_true rfl⟩ q1060 dX1_lies_23 (fun H locs hW hS => ?_)
        refine lv_if_eq (pc := 26) (tgt := 33) hx hb dX1_lies_26 (by decide) (fun c17 => ?_) (fun c17 => ?_)
        · have hd := wt_it hd c17
          exact hX10 () (Option.some.inj hd) _ _ _ hW hS (lv_sub hl [3, 4, 5, 0] rfl)
        · have hd := wt_if hd c17
          refine lv_iconst (pc := 29) (v := 1) hx hb dX1_lies_29 (by decide) ?_
          refine lv_goto (pc := 30) (tgt := 34) hx hb dX1_lies_30 (by decide) ?_
          obtain ⟨w18, hc19, hd⟩ := wt_bd_o hd
          refine kX1_need (pc := 34) hfl hx hb hml hown hts hC hW hS hc19 hl.1 (Nat.le_of_ble_eq_true rfl) ⟨Nat.le_of_ble_eq_true rfl, Nat.le_of_ble_eq_true rfl⟩ ⟨(Nat.le_of_ble_eq_true rfl), (Nat.le_of_ble_eq_true rfl)⟩ q676 dX1_lies_34 (fun x_ hx_ E_ ce_ q9_ H locs hXB hS hce hvn hfc => ?_) (fun o20 ho_ H locs hW hS => ?_)
          · have hd := wt_rs_r hx_ hd
            have hd := wt_rs_r (Option.some.inj hd) hq9
            exact hx_out (fun z hz => (hno z hz).elim) hlocks hce hvn hfc (Option.some.inj hd) hXB hS (Nat.le_of_ble_eq_true rfl) (Nat.le_of_ble_eq_true rfl)
          · have hd := wt_rs_l ho_ hd
            refine lv_aload (pc := 37) hx hb dX1_lies_37 (lv_at hl 0 rfl) ?_
            refine lv_iload (pc := 39) hx hb dX1_lies_39 (lv_at hl 5 rfl) ?_
            obtain ⟨h21, hd⟩ := wt_ck_o hd
            obtain ⟨w22, hc23, hd⟩ := wt_bd_o hd
            refine kX11_at (pc := 41) hx hb hml hown hts hC hW hS h21 hc23 hl.1 (Nat.le_of_ble_eq_true rfl) ⟨Nat.le_of_ble_eq_true rfl, Nat.le_of_ble_eq_true rfl⟩ ⟨(Nat.le_of_ble_eq_true rfl), (Nat.le_of_ble_eq_true rfl)⟩ q1063 dX1_lies_41 (fun H locs hW hS => ?_)
            obtain ⟨ad24, h25, hd⟩ := wt_bd_o hd
            refine hr_getN (pc := 44) hx hb hts hown hK hT hW (hgA_o h25) hf_9_1 (fun _ h => h) q1080 dX1_lies_44 ?_
            refine lv_bipush (pc := 47) (v := 10) hx hb dX1_lies_47 (by decide) ?_
            refine lv_iload_n (pc := 49) hx hb dX1_lies_49 rfl (lv_at hl 3 rfl) ?_
            refine lv_imul (pc := 50) hx hb dX1_lies_50 ?_
            refine lv_iload_n (pc := 51) hx hb dX1_lies_51 rfl (lv_at hl 4 rfl) ?_
            refine lv_iadd (pc := 52) hx hb dX1_lies_52 ?_
            obtain ⟨z26, h27, hd⟩ := wt_bd_o hd
            obtain ⟨h28, hd⟩ := wt_ck_o hd
            refine hr_iald (pc := 53) hx hb hK hW h27 h28 dX1_lies_53 ?_
            have hd := wt_rs_r (Option.some.inj hd) hq9
            refine vx_ret ?_
            exact hx_iret hx hb hr rfl hlocks (Option.some.inj hd) hW hS dX1_lies_54 (Nat.le_of_ble_eq_true rfl) (Nat.le_of_ble_eq_true rfl)
theorem kX1_lies {p : Program} {l : Launch} {e : Env} {R : Room} {s : State} {m : MethodId} {args : Array Value} {below : List Frame} {meth : Method} {c : Code} {H : Heap} {locs : List Loc} {cells slots : Nat} {Q : State → Prop} {cc : ByteArray} {pc : Nat} {ls : Array Slot} {rest : List Value} {nL : Nat} {own : String} {index : Nat} {G : HG} {A : Nat → Prop} {τ : HP} {o_ : Nat} {a0 : Int32} {a1 : Int32} {a2 : Int32} {a3 : Int32} {out_ : (Int32 × HP) ⊕ (Nat × Nat × HP)} (hfl : l.stackTraces = false) (hx : p.tables.exec = Jvm.exec) (hb : c.code = cc) (hml : c.maxLocals = nL) (hown : s.vm.findClass own = some m.cls) (hts : ∀ w ∈ lw_all, w.before args s = true) (hC : Hcx G A s) (hW : Hw G A τ H) (hS : va_S A s.heap H locs) (hrc : hcl τ o_ = some 0) (hd : eX1_lies τ o_ a0 a1 a2 a3 = some out_) (hsz : ls.size = nL) (hrm : (rest.map fun v => v.category).sum ≤ 8) (hR : 8 ≤ R.frames ∧ 157 ≤ R.locals) (hcs : (cells + 5) ≤ R.cells ∧ (slots + 126) ≤ R.slots) (hlk : Cond.methodLink own index yX1_lies ∈ lw_all) (hdg : decode cc pc = .ok (.invokevirtual index, 3)) (kx : ∀ x_ : Nat × Nat × HP, Sum.inr x_ = out_ → ∀ (E : String) (ce : Cell) (q9 : Addr) (H1 : Heap) (locs1 : List Loc), hXb G A E q9 x_ H1 → va_S A s.heap H1 locs1 → H1[q9]? = some ce → ce.vm = .none → s.vm.findClass E = some ce.cls → vx_W p l e R s m args below meth c H1 locs1 (cells + 5) (slots + 126) Q (F0 m pc ls rest) q9) (kk : ∀ o_1 : Int32 × HP, Sum.inl o_1 = out_ → ∀ (H1 : Heap) (locs1 : List Loc), Hw G A o_1.2 H1 → va_S A s.heap H1 locs1 → W p l e R s m args below meth c H1 locs1 (cells + 5) (slots + 126) Q (F0 m (pc + 3) ls (.int o_1.1 :: rest))) : W p l e R s m args below meth c H locs cells slots Q (F0 m pc ls (.int a3 :: .int a2 :: .int a1 :: .int a0 :: .ref o_ :: rest)) := by
  refine vx_calli (vx_runV (As := [.int a0, .int a1, .int a2, .int a3]) (rest := rest) ⟨hx, hb, hml, hown, hts⟩ (wX1_lies l hfl hd) (cwV 4 hts (lw_V hlk q1000 q1001 q66 q1002) rfl rfl rfl (by decide +kernel) hR) (hr_preV hC hW hS hrc rfl rfl) rfl rfl hsz rfl (lv_room hrm) hdg hcs) hS (fun _ _ h => h) (fun _ h => h) (fun _ _ h => h) (fun E ce q9 u t H1 locs1 ht hvm hp hB hz hk hS1 hce hvn hfc => ?_) (fun r u t H1 locs1 ht hvm hp hB hz hk hS1 => ?_)
  · rw [ht] at hB
    exact kx u hp E ce q9 H1 locs1 hB hS1 hce hvn hfc
  · have hW1 : Hw G A u t.heap := hB
    rw [ht] at hW1
    exact kk (r, u) hp H1 locs1 hW1 hS1
noncomputable def eX1_pile (τ : HP) (o_ : Nat) (a0 : Int32) (a1 : Int32) (a2 : Int32) (a3 : Int32) : Option ((Int32 × HP) ⊕ (Nat × Nat × HP)) :=
  wt_ck (hcl τ o_ = some 0) <| wt_bd (eX1_run τ o_ a0) fun w2 => wt_rs w2 (fun o4 => wt_bd (eX1_isPlace a1) fun w5 => wt_bd (if w5 = 0 then (some (.inl ())) else (wt_bd (eX1_isSort a2) fun w12 => if w12 = 0 then (some (.inl ())) else (wt_bd (eX1_isHour a3) fun w15 => if w15 = 0 then (some (.inl ())) else (wt_bd (eX1_need o4.2 (1 : Int32)) fun w18 => wt_rs w18 (fun o20 => wt_ck (hcl o4.2 o4.1 = some 8) <| wt_bd (eX11_at o4.2 o4.1 a3) fun w22 => wt_ck (hcl w22.2 w22.1 = some 9) <| wt_bd (eX12_pile w22.2 w22.1 a1 a2) fun w25 => some (.inr (.inl (w25, w22.2)))) (fun x_ => some (.inr (.inr x_))))))) fun w7 => wt_rs w7 (fun w7 => wt_bd (eX1_need o4.2 (0 : Int32)) fun w27 => wt_rs w27 (fun o29 => wt_ck (hcl o4.2 o4.1 = some 8) <| wt_bd (eX11_at o4.2 o4.1 a3) fun w31 => wt_ck (hcl w31.2 w31.1 = some 9) <| wt_bd (eX12_pile w31.2 w31.1 a1 a2) fun w34 => some (.inl (w34, w31.2))) (fun x_ => some (.inr x_))) (fun z_ => some z_)) (fun x_ => some (.inr x_))
set_option maxHeartbeats 4000000 in
theorem wX1_pile (l : Launch) (hfl : l.stackTraces = false) {G : HG} {A : Nat → Prop} {τ : HP} {o_ : Nat} {a0 : Int32} {a1 : Int32} {a2 : Int32} {a3 : Int32} {out_ : (Int32 × HP) ⊕ (Nat × Nat × HP)} (hd : eX1_pile τ o_ a0 a1 a2 a3 = some out_) : vx_Met l yX1_pile (ws_ yX1_pile cX1_pile 6 (some .int)) ({ frames := 7, cells := 5, slots := 126, locals := 132 }) (hPc G A τ [.ref o_, .int a0, .int a1, .int a2, .int a3]) (hXi G A (fun r u => Sum.inl (r, u) = out_)) (hXX G A out_) 5 126 A := by
  refine vx_ofW (cc := cX1_pile) (maxL := 6) (ret := (some .int)) (by decide) rfl ?_
  intro p_ e_ s_ m_ args_ below_ meth_ c_ s₁_ B hml hno hv
  obtain ⟨rfl, hW, hC⟩ := hv
  have hx := B.exec
  have hb := B.bytes
  have hr := B.returns
  have hts := atoms_spec (ws := (ws_ yX1_pile cX1_pile 6 (some .int))) B.pre
  have hts : ∀ w ∈ lw_all, w.before _ s_ = true := fun w h => hts w (List.mem_cons_of_mem _ h)
  have hown : s_.vm.findClass RX1 = some m_.cls := findClass_of_methodNamed B.named
  have hlocks := B.notSynchronized
  have hK := hC.1
  have hT := hC.2.1
  have hL := hC.2.2.1
  have hZ := hC.2.2.2.2.1
  have hA := hC.2.2.2.2.2
  have hS : va_S A s_.heap s_.heap [] := va_S.rf
  have hl := lv_entry ([.ref o_, .int a0, .int a1, .int a2, .int a3]) (n := 6) (Nat.le_of_ble_eq_true rfl)
  rw [lg_entry_eq]
  generalize (lg_sl ([.ref o_, .int a0, .int a1, .int a2, .int a3]) ++ List.replicate (6 - (lg_sl ([.ref o_, .int a0, .int a1, .int a2, .int a3])).length) Slot.unset).toArray = ls at hl ⊢
  have hl : lv_has ls 6 [(0, .ref o_), (1, .int a0), (2, .int a1), (3, .int a2), (4, .int a3)] := hl
  unfold eX1_pile at hd
  refine lv_aload_n (pc := 0) hx hb dX1_pile_0 rfl (lv_at hl 0 rfl) ?_
  refine lv_iload_n (pc := 1) hx hb dX1_pile_1 rfl (lv_at hl 1 rfl) ?_
  obtain ⟨h1, hd⟩ := wt_ck_o hd
  obtain ⟨w2, hc3, hd⟩ := wt_bd_o hd
  refine kX1_run (pc := 2) hfl hx hb hml hown hts hC hW hS h1 hc3 hl.1 (Nat.le_of_ble_eq_true rfl) ⟨Nat.le_of_ble_eq_true rfl, Nat.le_of_ble_eq_true rfl⟩ ⟨(Nat.le_of_ble_eq_true rfl), (Nat.le_of_ble_eq_true rfl)⟩ q1003 dX1_pile_2 (fun x_ hx_ E_ ce_ q9_ H locs hXB hS hce hvn hfc => ?_) (fun o4 ho_ H locs hW hS => ?_)
  · have hd := wt_rs_r hx_ hd
    exact hx_out (fun z hz => (hno z hz).elim) hlocks hce hvn hfc (Option.some.inj hd) hXB hS (Nat.le_of_ble_eq_true rfl) (Nat.le_of_ble_eq_true rfl)
  · have hd := wt_rs_l ho_ hd
    refine lv_astore (pc := 5) (lv' := [(5, .ref o4.1), (0, .ref o_), (1, .int a0), (2, .int a1), (3, .int a2), (4, .int a3)]) hx hb dX1_pile_5 hl (by decide) rfl (fun ls hl => ?_)
    refine lv_iload_n (pc := 7) hx hb dX1_pile_7 rfl (lv_at hl 3 rfl) ?_
    obtain ⟨w5, hc6, hd⟩ := wt_bd_o hd
    refine kX1_isPlace (pc := 8) hx hb hml hown hts hC hW hS hc6 hl.1 (Nat.le_of_ble_eq_true rfl) ⟨Nat.le_of_ble_eq_true rfl, Nat.le_of_ble_eq_true rfl⟩ ⟨Nat.le_of_ble_eq_true rfl, Nat.le_of_ble_eq_true rfl⟩ q1057 dX1_pile_8 (fun H locs hW hS => ?_)
    obtain ⟨w7, hj8, hq9⟩ := wt_bd_o hd
    have hX10 : ∀ w7_ : Unit, (Sum.inl w7_ : (Unit) ⊕ _) = w7 → ∀ (H : Heap) (locs : List Loc) (ls : Array Slot), Hw G A o4.2 H → va_S A s_.heap H locs → lv_has ls 6 [(2, .int a1), (3, .int a2), (4, .int a3), (5, .ref o4.1)] → W p_ l e_ (headSpec (ws_ yX1_pile cX1_pile 6 (some .int)) ({ frames := 7, cells := 5, slots := 126, locals := 132 })).room s_ m_ ([.ref o_, .int a0, .int a1, .int a2, .int a3] : List Value).toArray below_ meth_ c_ H locs 1 7 (vx_MQ below_ (hXi G A (fun r u => Sum.inl (r, u) = out_)) (hXX G A out_) ([.ref o_, .int a0, .int a1, .int a2, .int a3] : List Value).toArray s_ 5 126 A) (F0 m_ 33 ls []) := by
      intro w7_ hw_
      have hd := wt_rs_l hw_ hq9
      clear hj8 hq9
      intro H locs ls hW hS hl
      refine lv_iconst (pc := 33) (v := 0) hx hb dX1_pile_33 (by decide) ?_
      obtain ⟨w27, hc28, hd⟩ := wt_bd_o hd
      refine kX1_need (pc := 34) hfl hx hb hml hown hts hC hW hS hc28 hl.1 (Nat.le_of_ble_eq_true rfl) ⟨Nat.le_of_ble_eq_true rfl, Nat.le_of_ble_eq_true rfl⟩ ⟨(Nat.le_of_ble_eq_true rfl), (Nat.le_of_ble_eq_true rfl)⟩ q676 dX1_pile_34 (fun x_ hx_ E_ ce_ q9_ H locs hXB hS hce hvn hfc => ?_) (fun o29 ho_ H locs hW hS => ?_)
      · have hd := wt_rs_r hx_ hd
        exact hx_out (fun z hz => (hno z hz).elim) hlocks hce hvn hfc (Option.some.inj hd) hXB hS (Nat.le_of_ble_eq_true rfl) (Nat.le_of_ble_eq_true rfl)
      · have hd := wt_rs_l ho_ hd
        refine lv_aload (pc := 37) hx hb dX1_pile_37 (lv_at hl 3 rfl) ?_
        refine lv_iload (pc := 39) hx hb dX1_pile_39 (lv_at hl 2 rfl) ?_
        obtain ⟨h30, hd⟩ := wt_ck_o hd
        obtain ⟨w31, hc32, hd⟩ := wt_bd_o hd
        refine kX11_at (pc := 41) hx hb hml hown hts hC hW hS h30 hc32 hl.1 (Nat.le_of_ble_eq_true rfl) ⟨Nat.le_of_ble_eq_true rfl, Nat.le_of_ble_eq_true rfl⟩ ⟨(Nat.le_of_ble_eq_true rfl), (Nat.le_of_ble_eq_true rfl)⟩ q1063 dX1_pile_41 (fun H locs hW hS => ?_)
        refine lv_iload_n (pc := 44) hx hb dX1_pile_44 rfl (lv_at hl 0 rfl) ?_
        refine lv_iload_n (pc := 45) hx hb dX1_pile_45 rfl (lv_at hl 1 rfl) ?_
        obtain ⟨h33, hd⟩ := wt_ck_o hd
        obtain ⟨w34, hc35, hd⟩ := wt_bd_o hd
        refine kX12_pile (pc := 46) hx hb hml hown hts hC hW hS h33 hc35 hl.1 (Nat.le_of_ble_eq_true rfl) ⟨Nat.le_of_ble_eq_true rfl, Nat.le_of_ble_eq_true rfl⟩ ⟨Nat.le_of_ble_eq_true rfl, Nat.le_of_ble_eq_true rfl⟩ q1144 dX1_pile_46 (fun H locs hW hS => ?_)
        refine vx_ret ?_
        exact hx_iret hx hb hr rfl hlocks (Option.some.inj hd) hW hS dX1_pile_49 (Nat.le_of_ble_eq_true rfl) (Nat.le_of_ble_eq_true rfl)
    have hd := hj8
    refine lv_if_eq (pc := 11) (tgt := 33) hx hb dX1_pile_11 (by decide) (fun c11 => ?_) (fun c11 => ?_)
    · have hd := wt_it hd c11
      exact hX10 () (Option.some.inj hd) _ _ _ hW hS (lv_sub hl [3, 4, 5, 0] rfl)
    · have hd := wt_if hd c11
      refine lv_iload_n (pc := 14) hx hb dX1_pile_14 rfl (lv_at hl 4 rfl) ?_
      obtain ⟨w12, hc13, hd⟩ := wt_bd_o hd
      refine kX1_isSort (pc := 15) hx hb hml hown hts hC hW hS hc13 hl.1 (Nat.le_of_ble_eq_true rfl) ⟨Nat.le_of_ble_eq_true rfl, Nat.le_of_ble_eq_true rfl⟩ ⟨Nat.le_of_ble_eq_true rfl, Nat.le_of_ble_eq_true rfl⟩ q978 dX1_pile_15 (fun H locs hW hS => ?_)
      refine lv_if_eq (pc := 18) (tgt := 33) hx hb dX1_pile_18 (by decide) (fun c14 => ?_) (fun c14 => ?_)
      · have hd := wt_it hd c14
        exact hX10 () (Option.some.inj hd) _ _ _ hW hS (lv_sub hl [3, 4, 5, 0] rfl)
      · have hd := wt_if hd c14
        refine lv_iload (pc := 21) hx hb dX1_pile_21 (lv_at hl 5 rfl) ?_
        obtain ⟨w15, hc16, hd⟩ := wt_bd_o hd
        refine kX1_isHour (pc := 23) hx hb hml hown hts hC hW hS hc16 hl.1 (Nat.le_of_ble_eq_true rfl) ⟨Nat.le_of_ble_eq_true rfl, Nat.le_of_ble_eq_true rfl⟩ ⟨Nat.le_of_ble_eq_true rfl, Nat.le_of_ble_eq_true rfl⟩ q1060 dX1_pile_23 (fun H locs hW hS => ?_)
        refine lv_if_eq (pc := 26) (tgt := 33) hx hb dX1_pile_26 (by decide) (fun c17 => ?_) (fun c17 => ?_)
        · have hd := wt_it hd c17
          exact hX10 () (Option.some.inj hd) _ _ _ hW hS (lv_sub hl [3, 4, 5, 0] rfl)
        · have hd := wt_if hd c17
          refine lv_iconst (pc := 29) (v := 1) hx hb dX1_pile_29 (by decide) ?_
          refine lv_goto (pc := 30) (tgt := 34) hx hb dX1_pile_30 (by decide) ?_
          obtain ⟨w18, hc19, hd⟩ := wt_bd_o hd
          refine kX1_need (pc := 34) hfl hx hb hml hown hts hC hW hS hc19 hl.1 (Nat.le_of_ble_eq_true rfl) ⟨Nat.le_of_ble_eq_true rfl, Nat.le_of_ble_eq_true rfl⟩ ⟨(Nat.le_of_ble_eq_true rfl), (Nat.le_of_ble_eq_true rfl)⟩ q676 dX1_pile_34 (fun x_ hx_ E_ ce_ q9_ H locs hXB hS hce hvn hfc => ?_) (fun o20 ho_ H locs hW hS => ?_)
          · have hd := wt_rs_r hx_ hd
            have hd := wt_rs_r (Option.some.inj hd) hq9
            exact hx_out (fun z hz => (hno z hz).elim) hlocks hce hvn hfc (Option.some.inj hd) hXB hS (Nat.le_of_ble_eq_true rfl) (Nat.le_of_ble_eq_true rfl)
          · have hd := wt_rs_l ho_ hd
            refine lv_aload (pc := 37) hx hb dX1_pile_37 (lv_at hl 0 rfl) ?_
            refine lv_iload (pc := 39) hx hb dX1_pile_39 (lv_at hl 5 rfl) ?_
            obtain ⟨h21, hd⟩ := wt_ck_o hd
            obtain ⟨w22, hc23, hd⟩ := wt_bd_o hd
            refine kX11_at (pc := 41) hx hb hml hown hts hC hW hS h21 hc23 hl.1 (Nat.le_of_ble_eq_true rfl) ⟨Nat.le_of_ble_eq_true rfl, Nat.le_of_ble_eq_true rfl⟩ ⟨(Nat.le_of_ble_eq_true rfl), (Nat.le_of_ble_eq_true rfl)⟩ q1063 dX1_pile_41 (fun H locs hW hS => ?_)
            refine lv_iload_n (pc := 44) hx hb dX1_pile_44 rfl (lv_at hl 3 rfl) ?_
            refine lv_iload_n (pc := 45) hx hb dX1_pile_45 rfl (lv_at hl 4 rfl) ?_
            obtain ⟨h24, hd⟩ := wt_ck_o hd
            obtain ⟨w25, hc26, hd⟩ := wt_bd_o hd
            refine kX12_pile (pc := 46) hx hb hml hown hts hC hW hS h24 hc26 hl.1 (Nat.le_of_ble_eq_true rfl) ⟨Nat.le_of_ble_eq_true rfl, Nat.le_of_ble_eq_true rfl⟩ ⟨Nat.le_of_ble_eq_true rfl, Nat.le_of_ble_eq_true rfl⟩ q1144 dX1_pile_46 (fun H locs hW hS => ?_)
            have hd := wt_rs_r (Option.some.inj hd) hq9
            refine vx_ret ?_
            exact hx_iret hx hb hr rfl hlocks (Option.some.inj hd) hW hS dX1_pile_49 (Nat.le_of_ble_eq_true rfl) (Nat.le_of_ble_eq_true rfl)
theorem kX1_pile {p : Program} {l : Launch} {e : Env} {R : Room} {s : State} {m : MethodId} {args : Array Value} {below : List Frame} {meth : Method} {c : Code} {H : Heap} {locs : List Loc} {cells slots : Nat} {Q : State → Prop} {cc : ByteArray} {pc : Nat} {ls : Array Slot} {rest : List Value} {nL : Nat} {own : String} {index : Nat} {G : HG} {A : Nat → Prop} {τ : HP} {o_ : Nat} {a0 : Int32} {a1 : Int32} {a2 : Int32} {a3 : Int32} {out_ : (Int32 × HP) ⊕ (Nat × Nat × HP)} (hfl : l.stackTraces = false) (hx : p.tables.exec = Jvm.exec) (hb : c.code = cc) (hml : c.maxLocals = nL) (hown : s.vm.findClass own = some m.cls) (hts : ∀ w ∈ lw_all, w.before args s = true) (hC : Hcx G A s) (hW : Hw G A τ H) (hS : va_S A s.heap H locs) (hrc : hcl τ o_ = some 0) (hd : eX1_pile τ o_ a0 a1 a2 a3 = some out_) (hsz : ls.size = nL) (hrm : (rest.map fun v => v.category).sum ≤ 8) (hR : 8 ≤ R.frames ∧ 157 ≤ R.locals) (hcs : (cells + 5) ≤ R.cells ∧ (slots + 126) ≤ R.slots) (hlk : Cond.methodLink own index yX1_pile ∈ lw_all) (hdg : decode cc pc = .ok (.invokevirtual index, 3)) (kx : ∀ x_ : Nat × Nat × HP, Sum.inr x_ = out_ → ∀ (E : String) (ce : Cell) (q9 : Addr) (H1 : Heap) (locs1 : List Loc), hXb G A E q9 x_ H1 → va_S A s.heap H1 locs1 → H1[q9]? = some ce → ce.vm = .none → s.vm.findClass E = some ce.cls → vx_W p l e R s m args below meth c H1 locs1 (cells + 5) (slots + 126) Q (F0 m pc ls rest) q9) (kk : ∀ o_1 : Int32 × HP, Sum.inl o_1 = out_ → ∀ (H1 : Heap) (locs1 : List Loc), Hw G A o_1.2 H1 → va_S A s.heap H1 locs1 → W p l e R s m args below meth c H1 locs1 (cells + 5) (slots + 126) Q (F0 m (pc + 3) ls (.int o_1.1 :: rest))) : W p l e R s m args below meth c H locs cells slots Q (F0 m pc ls (.int a3 :: .int a2 :: .int a1 :: .int a0 :: .ref o_ :: rest)) := by
  refine vx_calli (vx_runV (As := [.int a0, .int a1, .int a2, .int a3]) (rest := rest) ⟨hx, hb, hml, hown, hts⟩ (wX1_pile l hfl hd) (cwV 4 hts (lw_V hlk q1141 q1142 q66 q1143) rfl rfl rfl (by decide +kernel) hR) (hr_preV hC hW hS hrc rfl rfl) rfl rfl hsz rfl (lv_room hrm) hdg hcs) hS (fun _ _ h => h) (fun _ h => h) (fun _ _ h => h) (fun E ce q9 u t H1 locs1 ht hvm hp hB hz hk hS1 hce hvn hfc => ?_) (fun r u t H1 locs1 ht hvm hp hB hz hk hS1 => ?_)
  · rw [ht] at hB
    exact kx u hp E ce q9 H1 locs1 hB hS1 hce hvn hfc
  · have hW1 : Hw G A u t.heap := hB
    rw [ht] at hW1
    exact kk (r, u) hp H1 locs1 hW1 hS1
noncomputable def eX1_wears (τ : HP) (o_ : Nat) (a0 : Int32) (a1 : Int32) (a2 : Int32) : Option ((Int32 × HP) ⊕ (Nat × Nat × HP)) :=
  wt_ck (hcl τ o_ = some 0) <| wt_bd (eX1_run τ o_ a0) fun w2 => wt_rs w2 (fun o4 => wt_bd (eX1_isPlace a1) fun w5 => wt_bd (if w5 = 0 then (some (.inl ())) else (wt_bd (eX1_isHour a2) fun w12 => if w12 = 0 then (some (.inl ())) else (wt_bd (eX1_need o4.2 (1 : Int32)) fun w15 => wt_rs w15 (fun o17 => wt_ck (hcl o4.2 o4.1 = some 8) <| wt_bd (eX11_at o4.2 o4.1 a2) fun w19 => wt_bd (hgA w19.2 w19.1 [9] 2) fun ad21 => wt_bd (haI w19.2 ad21 0) fun z23 => wt_ck (vp_in a1 z23.1) <| some (.inr (.inl ((z23.2 a1.toNatClampNeg), w19.2)))) (fun x_ => some (.inr (.inr x_)))))) fun w7 => wt_rs w7 (fun w7 => wt_bd (eX1_need o4.2 (0 : Int32)) fun w26 => wt_rs w26 (fun o28 => wt_ck (hcl o4.2 o4.1 = some 8) <| wt_bd (eX11_at o4.2 o4.1 a2) fun w30 => wt_bd (hgA w30.2 w30.1 [9] 2) fun ad32 => wt_bd (haI w30.2 ad32 0) fun z34 => wt_ck (vp_in a1 z34.1) <| some (.inl ((z34.2 a1.toNatClampNeg), w30.2))) (fun x_ => some (.inr x_))) (fun z_ => some z_)) (fun x_ => some (.inr x_))
set_option maxHeartbeats 4000000 in
theorem wX1_wears (l : Launch) (hfl : l.stackTraces = false) {G : HG} {A : Nat → Prop} {τ : HP} {o_ : Nat} {a0 : Int32} {a1 : Int32} {a2 : Int32} {out_ : (Int32 × HP) ⊕ (Nat × Nat × HP)} (hd : eX1_wears τ o_ a0 a1 a2 = some out_) : vx_Met l yX1_wears (ws_ yX1_wears cX1_wears 5 (some .int)) ({ frames := 7, cells := 5, slots := 126, locals := 132 }) (hPc G A τ [.ref o_, .int a0, .int a1, .int a2]) (hXi G A (fun r u => Sum.inl (r, u) = out_)) (hXX G A out_) 5 126 A := by
  refine vx_ofW (cc := cX1_wears) (maxL := 5) (ret := (some .int)) (by decide) rfl ?_
  intro p_ e_ s_ m_ args_ below_ meth_ c_ s₁_ B hml hno hv
  obtain ⟨rfl, hW, hC⟩ := hv
  have hx := B.exec
  have hb := B.bytes
  have hr := B.returns
  have hts := atoms_spec (ws := (ws_ yX1_wears cX1_wears 5 (some .int))) B.pre
  have hts : ∀ w ∈ lw_all, w.before _ s_ = true := fun w h => hts w (List.mem_cons_of_mem _ h)
  have hown : s_.vm.findClass RX1 = some m_.cls := findClass_of_methodNamed B.named
  have hlocks := B.notSynchronized
  have hK := hC.1
  have hT := hC.2.1
  have hL := hC.2.2.1
  have hZ := hC.2.2.2.2.1
  have hA := hC.2.2.2.2.2
  have hS : va_S A s_.heap s_.heap [] := va_S.rf
  have hl := lv_entry ([.ref o_, .int a0, .int a1, .int a2]) (n := 5) (Nat.le_of_ble_eq_true rfl)
  rw [lg_entry_eq]
  generalize (lg_sl ([.ref o_, .int a0, .int a1, .int a2]) ++ List.replicate (5 - (lg_sl ([.ref o_, .int a0, .int a1, .int a2])).length) Slot.unset).toArray = ls at hl ⊢
  have hl : lv_has ls 5 [(0, .ref o_), (1, .int a0), (2, .int a1), (3, .int a2)] := hl
  unfold eX1_wears at hd
  refine lv_aload_n (pc := 0) hx hb dX1_wears_0 rfl (lv_at hl 0 rfl) ?_
  refine lv_iload_n (pc := 1) hx hb dX1_wears_1 rfl (lv_at hl 1 rfl) ?_
  obtain ⟨h1, hd⟩ := wt_ck_o hd
  obtain ⟨w2, hc3, hd⟩ := wt_bd_o hd
  refine kX1_run (pc := 2) hfl hx hb hml hown hts hC hW hS h1 hc3 hl.1 (Nat.le_of_ble_eq_true rfl) ⟨Nat.le_of_ble_eq_true rfl, Nat.le_of_ble_eq_true rfl⟩ ⟨(Nat.le_of_ble_eq_true rfl), (Nat.le_of_ble_eq_true rfl)⟩ q1003 dX1_wears_2 (fun x_ hx_ E_ ce_ q9_ H locs hXB hS hce hvn hfc => ?_) (fun o4 ho_ H locs hW hS => ?_)
  · have hd := wt_rs_r hx_ hd
    exact hx_out (fun z hz => (hno z hz).elim) hlocks hce hvn hfc (Option.some.inj hd) hXB hS (Nat.le_of_ble_eq_true rfl) (Nat.le_of_ble_eq_true rfl)
  · have hd := wt_rs_l ho_ hd
    refine lv_astore (pc := 5) (lv' := [(4, .ref o4.1), (0, .ref o_), (1, .int a0), (2, .int a1), (3, .int a2)]) hx hb dX1_wears_5 hl (by decide) rfl (fun ls hl => ?_)
    refine lv_iload_n (pc := 7) hx hb dX1_wears_7 rfl (lv_at hl 3 rfl) ?_
    obtain ⟨w5, hc6, hd⟩ := wt_bd_o hd
    refine kX1_isPlace (pc := 8) hx hb hml hown hts hC hW hS hc6 hl.1 (Nat.le_of_ble_eq_true rfl) ⟨Nat.le_of_ble_eq_true rfl, Nat.le_of_ble_eq_true rfl⟩ ⟨Nat.le_of_ble_eq_true rfl, Nat.le_of_ble_eq_true rfl⟩ q1057 dX1_wears_8 (fun H locs hW hS => ?_)
    obtain ⟨w7, hj8, hq9⟩ := wt_bd_o hd
    have hX10 : ∀ w7_ : Unit, (Sum.inl w7_ : (Unit) ⊕ _) = w7 → ∀ (H : Heap) (locs : List Loc) (ls : Array Slot), Hw G A o4.2 H → va_S A s_.heap H locs → lv_has ls 5 [(2, .int a1), (3, .int a2), (4, .ref o4.1)] → W p_ l e_ (headSpec (ws_ yX1_wears cX1_wears 5 (some .int)) ({ frames := 7, cells := 5, slots := 126, locals := 132 })).room s_ m_ ([.ref o_, .int a0, .int a1, .int a2] : List Value).toArray below_ meth_ c_ H locs 1 7 (vx_MQ below_ (hXi G A (fun r u => Sum.inl (r, u) = out_)) (hXX G A out_) ([.ref o_, .int a0, .int a1, .int a2] : List Value).toArray s_ 5 126 A) (F0 m_ 25 ls []) := by
      intro w7_ hw_
      have hd := wt_rs_l hw_ hq9
      clear hj8 hq9
      intro H locs ls hW hS hl
      refine lv_iconst (pc := 25) (v := 0) hx hb dX1_wears_25 (by decide) ?_
      obtain ⟨w26, hc27, hd⟩ := wt_bd_o hd
      refine kX1_need (pc := 26) hfl hx hb hml hown hts hC hW hS hc27 hl.1 (Nat.le_of_ble_eq_true rfl) ⟨Nat.le_of_ble_eq_true rfl, Nat.le_of_ble_eq_true rfl⟩ ⟨(Nat.le_of_ble_eq_true rfl), (Nat.le_of_ble_eq_true rfl)⟩ q676 dX1_wears_26 (fun x_ hx_ E_ ce_ q9_ H locs hXB hS hce hvn hfc => ?_) (fun o28 ho_ H locs hW hS => ?_)
      · have hd := wt_rs_r hx_ hd
        exact hx_out (fun z hz => (hno z hz).elim) hlocks hce hvn hfc (Option.some.inj hd) hXB hS (Nat.le_of_ble_eq_true rfl) (Nat.le_of_ble_eq_true rfl)
      · have hd := wt_rs_l ho_ hd
        refine lv_aload (pc := 29) hx hb dX1_wears_29 (lv_at hl 2 rfl) ?_
        refine lv_iload_n (pc := 31) hx hb dX1_wears_31 rfl (lv_at hl 1 rfl) ?_
        obtain ⟨h29, hd⟩ := wt_ck_o hd
        obtain ⟨w30, hc31, hd⟩ := wt_bd_o hd
        refine kX11_at (pc := 32) hx hb hml hown hts hC hW hS h29 hc31 hl.1 (Nat.le_of_ble_eq_true rfl) ⟨Nat.le_of_ble_eq_true rfl, Nat.le_of_ble_eq_true rfl⟩ ⟨(Nat.le_of_ble_eq_true rfl), (Nat.le_of_ble_eq_true rfl)⟩ q1063 dX1_wears_32 (fun H locs hW hS => ?_)
        obtain ⟨ad32, h33, hd⟩ := wt_bd_o hd
        refine hr_getN (pc := 35) hx hb hts hown hK hT hW (hgA_o h33) hf_9_2 (fun _ h => h) q1083 dX1_wears_35 ?_
        refine lv_iload_n (pc := 38) hx hb dX1_wears_38 rfl (lv_at hl 0 rfl) ?_
        obtain ⟨z34, h35, hd⟩ := wt_bd_o hd
        obtain ⟨h36, hd⟩ := wt_ck_o hd
        refine hr_iald (pc := 39) hx hb hK hW h35 h36 dX1_wears_39 ?_
        refine vx_ret ?_
        exact hx_iret hx hb hr rfl hlocks (Option.some.inj hd) hW hS dX1_wears_40 (Nat.le_of_ble_eq_true rfl) (Nat.le_of_ble_eq_true rfl)
    have hd := hj8
    refine lv_if_eq (pc := 11) (tgt := 25) hx hb dX1_wears_11 (by decide) (fun c11 => ?_) (fun c11 => ?_)
    · have hd := wt_it hd c11
      exact hX10 () (Option.some.inj hd) _ _ _ hW hS (lv_sub hl [3, 4, 0] rfl)
    · have hd := wt_if hd c11
      refine lv_iload_n (pc := 14) hx hb dX1_wears_14 rfl (lv_at hl 4 rfl) ?_
      obtain ⟨w12, hc13, hd⟩ := wt_bd_o hd
      refine kX1_isHour (pc := 15) hx hb hml hown hts hC hW hS hc13 hl.1 (Nat.le_of_ble_eq_true rfl) ⟨Nat.le_of_ble_eq_true rfl, Nat.le_of_ble_eq_true rfl⟩ ⟨Nat.le_of_ble_eq_true rfl, Nat.le_of_ble_eq_true rfl⟩ q1060 dX1_wears_15 (fun H locs hW hS => ?_)
      refine lv_if_eq (pc := 18) (tgt := 25) hx hb dX1_wears_18 (by decide) (fun c14 => ?_) (fun c14 => ?_)
      · have hd := wt_it hd c14
        exact hX10 () (Option.some.inj hd) _ _ _ hW hS (lv_sub hl [3, 4, 0] rfl)
      · have hd := wt_if hd c14
        refine lv_iconst (pc := 21) (v := 1) hx hb dX1_wears_21 (by decide) ?_
        refine lv_goto (pc := 22) (tgt := 26) hx hb dX1_wears_22 (by decide) ?_
        obtain ⟨w15, hc16, hd⟩ := wt_bd_o hd
        refine kX1_need (pc := 26) hfl hx hb hml hown hts hC hW hS hc16 hl.1 (Nat.le_of_ble_eq_true rfl) ⟨Nat.le_of_ble_eq_true rfl, Nat.le_of_ble_eq_true rfl⟩ ⟨(Nat.le_of_ble_eq_true rfl), (Nat.le_of_ble_eq_true rfl)⟩ q676 dX1_wears_26 (fun x_ hx_ E_ ce_ q9_ H locs hXB hS hce hvn hfc => ?_) (fun o17 ho_ H locs hW hS => ?_)
        · have hd := wt_rs_r hx_ hd
          have hd := wt_rs_r (Option.some.inj hd) hq9
          exact hx_out (fun z hz => (hno z hz).elim) hlocks hce hvn hfc (Option.some.inj hd) hXB hS (Nat.le_of_ble_eq_true rfl) (Nat.le_of_ble_eq_true rfl)
        · have hd := wt_rs_l ho_ hd
          refine lv_aload (pc := 29) hx hb dX1_wears_29 (lv_at hl 0 rfl) ?_
          refine lv_iload_n (pc := 31) hx hb dX1_wears_31 rfl (lv_at hl 4 rfl) ?_
          obtain ⟨h18, hd⟩ := wt_ck_o hd
          obtain ⟨w19, hc20, hd⟩ := wt_bd_o hd
          refine kX11_at (pc := 32) hx hb hml hown hts hC hW hS h18 hc20 hl.1 (Nat.le_of_ble_eq_true rfl) ⟨Nat.le_of_ble_eq_true rfl, Nat.le_of_ble_eq_true rfl⟩ ⟨(Nat.le_of_ble_eq_true rfl), (Nat.le_of_ble_eq_true rfl)⟩ q1063 dX1_wears_32 (fun H locs hW hS => ?_)
          obtain ⟨ad21, h22, hd⟩ := wt_bd_o hd
          refine hr_getN (pc := 35) hx hb hts hown hK hT hW (hgA_o h22) hf_9_2 (fun _ h => h) q1083 dX1_wears_35 ?_
          refine lv_iload_n (pc := 38) hx hb dX1_wears_38 rfl (lv_at hl 3 rfl) ?_
          obtain ⟨z23, h24, hd⟩ := wt_bd_o hd
          obtain ⟨h25, hd⟩ := wt_ck_o hd
          refine hr_iald (pc := 39) hx hb hK hW h24 h25 dX1_wears_39 ?_
          have hd := wt_rs_r (Option.some.inj hd) hq9
          refine vx_ret ?_
          exact hx_iret hx hb hr rfl hlocks (Option.some.inj hd) hW hS dX1_wears_40 (Nat.le_of_ble_eq_true rfl) (Nat.le_of_ble_eq_true rfl)
theorem kX1_wears {p : Program} {l : Launch} {e : Env} {R : Room} {s : State} {m : MethodId} {args : Array Value} {below : List Frame} {meth : Method} {c : Code} {H : Heap} {locs : List Loc} {cells slots : Nat} {Q : State → Prop} {cc : ByteArray} {pc : Nat} {ls : Array Slot} {rest : List Value} {nL : Nat} {own : String} {index : Nat} {G : HG} {A : Nat → Prop} {τ : HP} {o_ : Nat} {a0 : Int32} {a1 : Int32} {a2 : Int32} {out_ : (Int32 × HP) ⊕ (Nat × Nat × HP)} (hfl : l.stackTraces = false) (hx : p.tables.exec = Jvm.exec) (hb : c.code = cc) (hml : c.maxLocals = nL) (hown : s.vm.findClass own = some m.cls) (hts : ∀ w ∈ lw_all, w.before args s = true) (hC : Hcx G A s) (hW : Hw G A τ H) (hS : va_S A s.heap H locs) (hrc : hcl τ o_ = some 0) (hd : eX1_wears τ o_ a0 a1 a2 = some out_) (hsz : ls.size = nL) (hrm : (rest.map fun v => v.category).sum ≤ 8) (hR : 8 ≤ R.frames ∧ 156 ≤ R.locals) (hcs : (cells + 5) ≤ R.cells ∧ (slots + 126) ≤ R.slots) (hlk : Cond.methodLink own index yX1_wears ∈ lw_all) (hdg : decode cc pc = .ok (.invokevirtual index, 3)) (kx : ∀ x_ : Nat × Nat × HP, Sum.inr x_ = out_ → ∀ (E : String) (ce : Cell) (q9 : Addr) (H1 : Heap) (locs1 : List Loc), hXb G A E q9 x_ H1 → va_S A s.heap H1 locs1 → H1[q9]? = some ce → ce.vm = .none → s.vm.findClass E = some ce.cls → vx_W p l e R s m args below meth c H1 locs1 (cells + 5) (slots + 126) Q (F0 m pc ls rest) q9) (kk : ∀ o_1 : Int32 × HP, Sum.inl o_1 = out_ → ∀ (H1 : Heap) (locs1 : List Loc), Hw G A o_1.2 H1 → va_S A s.heap H1 locs1 → W p l e R s m args below meth c H1 locs1 (cells + 5) (slots + 126) Q (F0 m (pc + 3) ls (.int o_1.1 :: rest))) : W p l e R s m args below meth c H locs cells slots Q (F0 m pc ls (.int a2 :: .int a1 :: .int a0 :: .ref o_ :: rest)) := by
  refine vx_calli (vx_runV (As := [.int a0, .int a1, .int a2]) (rest := rest) ⟨hx, hb, hml, hown, hts⟩ (wX1_wears l hfl hd) (cwV 3 hts (lw_V hlk q1152 q1153 q66 q1154) rfl rfl rfl (by decide +kernel) hR) (hr_preV hC hW hS hrc rfl rfl) rfl rfl hsz rfl (lv_room hrm) hdg hcs) hS (fun _ _ h => h) (fun _ h => h) (fun _ _ h => h) (fun E ce q9 u t H1 locs1 ht hvm hp hB hz hk hS1 hce hvn hfc => ?_) (fun r u t H1 locs1 ht hvm hp hB hz hk hS1 => ?_)
  · rw [ht] at hB
    exact kx u hp E ce q9 H1 locs1 hB hS1 hce hvn hfc
  · have hW1 : Hw G A u t.heap := hB
    rw [ht] at hW1
    exact kk (r, u) hp H1 locs1 hW1 hS1
noncomputable def eX1_find (τ : HP) (o_ : Nat) (a0 : Int32) (a1 : Int32) (a2 : Int32) (a3 : Int32) : Option ((Int32 × HP) ⊕ (Nat × Nat × HP)) :=
  wt_bd (eX1_isPlace a0) fun w1 => wt_bd (if w1 = 0 then (some (.inl ())) else (wt_bd (eX1_isHour a1) fun w8 => if w8 = 0 then (some (.inl ())) else (wt_bd (eX1_isSort a2) fun w11 => if w11 = 0 then (some (.inl ())) else (if a3 < 0 then (some (.inl ())) else (if (60 : Int32) < a3 then (some (.inl ())) else (wt_bd (eX1_need τ (1 : Int32)) fun w16 => wt_rs w16 (fun o18 => wt_bd (hgA τ o_ [0] 1) fun ad19 => wt_bd (hgA τ ad19 [2] 0) fun ad21 => wt_ck (hcl τ ad21 = some 13) <| wt_bd (eJ2_size τ ad21) fun w24 => if w24 = (8 : Int32) then (some (.inr (.inl ((-1 : Int32), τ)))) else (wt_bd (hgA τ o_ [0] 1) fun ad27 => wt_bd (hgA τ ad27 [2] 0) fun ad29 => wt_lt (hnew τ (.inr (10, [.int 0, .int 0, .int 0, .int 0]))) fun τ31 => wt_bd (eX13_init τ31 τ.2 a0 a1 a2 a3) fun w32 => wt_ck (hcl w32 ad29 = some 13) <| wt_bd (eJ2_add w32 ad29 τ.2) fun w35 => wt_bd (hgA w35.2 o_ [0] 1) fun ad37 => wt_bd (hgA w35.2 ad37 [2] 0) fun ad39 => wt_ck (hcl w35.2 ad39 = some 13) <| wt_bd (eJ2_size w35.2 ad39) fun w42 => some (.inr (.inl ((w42 - (1 : Int32)), w35.2))))) (fun x_ => some (.inr (.inr x_))))))))) fun w3 => wt_rs w3 (fun w3 => wt_bd (eX1_need τ (0 : Int32)) fun w44 => wt_rs w44 (fun o46 => wt_bd (hgA τ o_ [0] 1) fun ad47 => wt_bd (hgA τ ad47 [2] 0) fun ad49 => wt_ck (hcl τ ad49 = some 13) <| wt_bd (eJ2_size τ ad49) fun w52 => if w52 = (8 : Int32) then (some (.inl ((-1 : Int32), τ))) else (wt_bd (hgA τ o_ [0] 1) fun ad55 => wt_bd (hgA τ ad55 [2] 0) fun ad57 => wt_lt (hnew τ (.inr (10, [.int 0, .int 0, .int 0, .int 0]))) fun τ59 => wt_bd (eX13_init τ59 τ.2 a0 a1 a2 a3) fun w60 => wt_ck (hcl w60 ad57 = some 13) <| wt_bd (eJ2_add w60 ad57 τ.2) fun w63 => wt_bd (hgA w63.2 o_ [0] 1) fun ad65 => wt_bd (hgA w63.2 ad65 [2] 0) fun ad67 => wt_ck (hcl w63.2 ad67 = some 13) <| wt_bd (eJ2_size w63.2 ad67) fun w70 => some (.inl ((w70 - (1 : Int32)), w63.2)))) (fun x_ => some (.inr x_))) (fun z_ => some z_)
set_option maxHeartbeats 4000000 in
theorem wX1_find (l : Launch) (hfl : l.stackTraces = false) {G : HG} {A : Nat → Prop} {τ : HP} {o_ : Nat} {a0 : Int32} {a1 : Int32} {a2 : Int32} {a3 : Int32} {out_ : (Int32 × HP) ⊕ (Nat × Nat × HP)} (hd : eX1_find τ o_ a0 a1 a2 a3 = some out_) : vx_Met l yX1_find (ws_ yX1_find cX1_find 5 (some .int)) ({ frames := 7, cells := 3, slots := 42, locals := 163 }) (hPc G A τ [.ref o_, .int a0, .int a1, .int a2, .int a3]) (hXi G A (fun r u => Sum.inl (r, u) = out_)) (hXX G A out_) 3 42 A := by
  refine vx_ofW (cc := cX1_find) (maxL := 5) (ret := (some .int)) (by decide) rfl ?_
  intro p_ e_ s_ m_ args_ below_ meth_ c_ s₁_ B hml hno hv
  obtain ⟨rfl, hW, hC⟩ := hv
  have hx := B.exec
  have hb := B.bytes
  have hr := B.returns
  have hts := atoms_spec (ws := (ws_ yX1_find cX1_find 5 (some .int))) B.pre
  have hts : ∀ w ∈ lw_all, w.before _ s_ = true := fun w h => hts w (List.mem_cons_of_mem _ h)
  have hown : s_.vm.findClass RX1 = some m_.cls := findClass_of_methodNamed B.named
  have hlocks := B.notSynchronized
  have hK := hC.1
  have hT := hC.2.1
  have hL := hC.2.2.1
  have hZ := hC.2.2.2.2.1
  have hA := hC.2.2.2.2.2
  have hS : va_S A s_.heap s_.heap [] := va_S.rf
  have hl := lv_entry ([.ref o_, .int a0, .int a1, .int a2, .int a3]) (n := 5) (Nat.le_of_ble_eq_true rfl)
  rw [lg_entry_eq]
  generalize (lg_sl ([.ref o_, .int a0, .int a1, .int a2, .int a3]) ++ List.replicate (5 - (lg_sl ([.ref o_, .int a0, .int a1, .int a2, .int a3])).length) Slot.unset).toArray = ls at hl ⊢
  have hl : lv_has ls 5 [(0, .ref o_), (1, .int a0), (2, .int a1), (3, .int a2), (4, .int a3)] := hl
  unfold eX1_find at hd
  refine lv_iload_n (pc := 0) hx hb dX1_find_0 rfl (lv_at hl 1 rfl) ?_
  obtain ⟨w1, hc2, hd⟩ := wt_bd_o hd
  refine kX1_isPlace (pc := 1) hx hb hml hown hts hC hW hS hc2 hl.1 (Nat.le_of_ble_eq_true rfl) ⟨Nat.le_of_ble_eq_true rfl, Nat.le_of_ble_eq_true rfl⟩ ⟨Nat.le_of_ble_eq_true rfl, Nat.le_of_ble_eq_true rfl⟩ q1057 dX1_find_1 (fun H locs hW hS => ?_)
  obtain ⟨w3, hj4, hq5⟩ := wt_bd_o hd
  have hX6 : ∀ w3_ : Unit, (Sum.inl w3_ : (Unit) ⊕ _) = w3 → ∀ (H : Heap) (locs : List Loc) (ls : Array Slot), Hw G A τ H → va_S A s_.heap H locs → lv_has ls 5 [(0, .ref o_), (1, .int a0), (2, .int a1), (3, .int a2), (4, .int a3)] → W p_ l e_ (headSpec (ws_ yX1_find cX1_find 5 (some .int)) ({ frames := 7, cells := 3, slots := 42, locals := 163 })).room s_ m_ ([.ref o_, .int a0, .int a1, .int a2, .int a3] : List Value).toArray below_ meth_ c_ H locs 0 0 (vx_MQ below_ (hXi G A (fun r u => Sum.inl (r, u) = out_)) (hXX G A out_) ([.ref o_, .int a0, .int a1, .int a2, .int a3] : List Value).toArray s_ 3 42 A) (F0 m_ 37 ls []) := by
    intro w3_ hw_
    have hd := wt_rs_l hw_ hq5
    clear hj4 hq5
    intro H locs ls hW hS hl
    refine lv_iconst (pc := 37) (v := 0) hx hb dX1_find_37 (by decide) ?_
    obtain ⟨w44, hc45, hd⟩ := wt_bd_o hd
    refine kX1_need (pc := 38) hfl hx hb hml hown hts hC hW hS hc45 hl.1 (Nat.le_of_ble_eq_true rfl) ⟨Nat.le_of_ble_eq_true rfl, Nat.le_of_ble_eq_true rfl⟩ ⟨(Nat.le_of_ble_eq_true rfl), (Nat.le_of_ble_eq_true rfl)⟩ q676 dX1_find_38 (fun x_ hx_ E_ ce_ q9_ H locs hXB hS hce hvn hfc => ?_) (fun o46 ho_ H locs hW hS => ?_)
    · have hd := wt_rs_r hx_ hd
      exact hx_out (fun z hz => (hno z hz).elim) hlocks hce hvn hfc (Option.some.inj hd) hXB hS (Nat.le_of_ble_eq_true rfl) (Nat.le_of_ble_eq_true rfl)
    · have hd := wt_rs_l ho_ hd
      refine lv_aload_n (pc := 41) hx hb dX1_find_41 rfl (lv_at hl 0 rfl) ?_
      obtain ⟨ad47, h48, hd⟩ := wt_bd_o hd
      refine hr_get (pc := 42) hx hb hts hown hK hW (hgA_o h48) hf_0_1 (fun _ h => h) q536 dX1_find_42 ?_
      obtain ⟨ad49, h50, hd⟩ := wt_bd_o hd
      refine hr_getN (pc := 45) hx hb hts hown hK hT hW (hgA_o h50) hf_2_0 (fun _ h => h) q515 dX1_find_45 ?_
      obtain ⟨h51, hd⟩ := wt_ck_o hd
      obtain ⟨w52, hc53, hd⟩ := wt_bd_o hd
      refine kJ2_size (pc := 48) hx hb hml hown hts hC hW hS h51 hc53 hl.1 (Nat.le_of_ble_eq_true rfl) ⟨Nat.le_of_ble_eq_true rfl, Nat.le_of_ble_eq_true rfl⟩ ⟨Nat.le_of_ble_eq_true rfl, Nat.le_of_ble_eq_true rfl⟩ q666 dX1_find_48 (fun H locs hW hS => ?_)
      refine lv_bipush (pc := 51) (v := 8) hx hb dX1_find_51 (by decide) ?_
      refine lv_icmp_ne (pc := 53) (tgt := 58) hx hb dX1_find_53 (by decide) (fun c54 => ?_) (fun c54 => ?_)
      · have hd := wt_if hd c54
        refine lv_aload_n (pc := 58) hx hb dX1_find_58 rfl (lv_at hl 0 rfl) ?_
        obtain ⟨ad55, h56, hd⟩ := wt_bd_o hd
        refine hr_get (pc := 59) hx hb hts hown hK hW (hgA_o h56) hf_0_1 (fun _ h => h) q536 dX1_find_59 ?_
        obtain ⟨ad57, h58, hd⟩ := wt_bd_o hd
        refine hr_getN (pc := 62) hx hb hts hown hK hT hW (hgA_o h58) hf_2_0 (fun _ h => h) q515 dX1_find_62 ?_
        obtain ⟨τ59, eτ59, hd⟩ := wt_lt_o hd
        refine hr_new (pc := 65) (ci := 10) (fs := [.int 0, .int 0, .int 0, .int 0]) hx hb hts hown hK hW hS hA rfl tyX13 tyX13_ok (by decide +kernel) q1162 q1163 q99 eτ59 (Nat.le_of_ble_eq_true rfl) (Nat.le_of_ble_eq_true rfl) dX1_find_65 (fun H hW hS => ?_)
        refine lv_dup (pc := 68) hx hb dX1_find_68 rfl ?_
        refine lv_iload_n (pc := 69) hx hb dX1_find_69 rfl (lv_at hl 1 rfl) ?_
        refine lv_iload_n (pc := 70) hx hb dX1_find_70 rfl (lv_at hl 2 rfl) ?_
        refine lv_iload_n (pc := 71) hx hb dX1_find_71 rfl (lv_at hl 3 rfl) ?_
        refine lv_iload (pc := 72) hx hb dX1_find_72 (lv_at hl 4 rfl) ?_
        obtain ⟨w60, hc61, hd⟩ := wt_bd_o hd
        refine kX13_init (pc := 74) hx hb hml hown hts hC hW hS hc61 hl.1 (Nat.le_of_ble_eq_true rfl) ⟨Nat.le_of_ble_eq_true rfl, Nat.le_of_ble_eq_true rfl⟩ ⟨Nat.le_of_ble_eq_true rfl, Nat.le_of_ble_eq_true rfl⟩ q1164 dX1_find_74 (fun H locs hW hS => ?_)
        obtain ⟨h62, hd⟩ := wt_ck_o hd
        obtain ⟨w63, hc64, hd⟩ := wt_bd_o hd
        refine kJ2_add (pc := 77) hx hb hml hown hts hC hW hS h62 hc64 hl.1 (Nat.le_of_ble_eq_true rfl) ⟨Nat.le_of_ble_eq_true rfl, Nat.le_of_ble_eq_true rfl⟩ ⟨(Nat.le_of_ble_eq_true rfl), (Nat.le_of_ble_eq_true rfl)⟩ q970 dX1_find_77 (fun H locs hW hS => ?_)
        refine lv_pop (pc := 80) hx hb dX1_find_80 rfl ?_
        refine lv_aload_n (pc := 81) hx hb dX1_find_81 rfl (lv_at hl 0 rfl) ?_
        obtain ⟨ad65, h66, hd⟩ := wt_bd_o hd
        refine hr_get (pc := 82) hx hb hts hown hK hW (hgA_o h66) hf_0_1 (fun _ h => h) q536 dX1_find_82 ?_
        obtain ⟨ad67, h68, hd⟩ := wt_bd_o hd
        refine hr_getN (pc := 85) hx hb hts hown hK hT hW (hgA_o h68) hf_2_0 (fun _ h => h) q515 dX1_find_85 ?_
        obtain ⟨h69, hd⟩ := wt_ck_o hd
        obtain ⟨w70, hc71, hd⟩ := wt_bd_o hd
        refine kJ2_size (pc := 88) hx hb hml hown hts hC hW hS h69 hc71 hl.1 (Nat.le_of_ble_eq_true rfl) ⟨Nat.le_of_ble_eq_true rfl, Nat.le_of_ble_eq_true rfl⟩ ⟨Nat.le_of_ble_eq_true rfl, Nat.le_of_ble_eq_true rfl⟩ q666 dX1_find_88 (fun H locs hW hS => ?_)
        refine lv_iconst (pc := 91) (v := 1) hx hb dX1_find_91 (by decide) ?_
        refine lv_isub (pc := 92) hx hb dX1_find_92 ?_
        refine vx_ret ?_
        exact hx_iret hx hb hr rfl hlocks (Option.some.inj hd) hW hS dX1_find_93 (Nat.le_of_ble_eq_true rfl) (Nat.le_of_ble_eq_true rfl)
      · have hd := wt_it hd c54
        refine lv_iconst (pc := 56) (v := -1) hx hb dX1_find_56 (by decide) ?_
        refine vx_ret ?_
        exact hx_iret hx hb hr rfl hlocks (Option.some.inj hd) hW hS dX1_find_57 (Nat.le_of_ble_eq_true rfl) (Nat.le_of_ble_eq_true rfl)
  have hd := hj4
  refine lv_if_eq (pc := 4) (tgt := 37) hx hb dX1_find_4 (by decide) (fun c7 => ?_) (fun c7 => ?_)
  · have hd := wt_it hd c7
    exact hX6 () (Option.some.inj hd) _ _ _ hW hS hl
  · have hd := wt_if hd c7
    refine lv_iload_n (pc := 7) hx hb dX1_find_7 rfl (lv_at hl 2 rfl) ?_
    obtain ⟨w8, hc9, hd⟩ := wt_bd_o hd
    refine kX1_isHour (pc := 8) hx hb hml hown hts hC hW hS hc9 hl.1 (Nat.le_of_ble_eq_true rfl) ⟨Nat.le_of_ble_eq_true rfl, Nat.le_of_ble_eq_true rfl⟩ ⟨Nat.le_of_ble_eq_true rfl, Nat.le_of_ble_eq_true rfl⟩ q1060 dX1_find_8 (fun H locs hW hS => ?_)
    refine lv_if_eq (pc := 11) (tgt := 37) hx hb dX1_find_11 (by decide) (fun c10 => ?_) (fun c10 => ?_)
    · have hd := wt_it hd c10
      exact hX6 () (Option.some.inj hd) _ _ _ hW hS hl
    · have hd := wt_if hd c10
      refine lv_iload_n (pc := 14) hx hb dX1_find_14 rfl (lv_at hl 3 rfl) ?_
      obtain ⟨w11, hc12, hd⟩ := wt_bd_o hd
      refine kX1_isSort (pc := 15) hx hb hml hown hts hC hW hS hc12 hl.1 (Nat.le_of_ble_eq_true rfl) ⟨Nat.le_of_ble_eq_true rfl, Nat.le_of_ble_eq_true rfl⟩ ⟨Nat.le_of_ble_eq_true rfl, Nat.le_of_ble_eq_true rfl⟩ q978 dX1_find_15 (fun H locs hW hS => ?_)
      refine lv_if_eq (pc := 18) (tgt := 37) hx hb dX1_find_18 (by decide) (fun c13 => ?_) (fun c13 => ?_)
      · have hd := wt_it hd c13
        exact hX6 () (Option.some.inj hd) _ _ _ hW hS hl
      · have hd := wt_if hd c13
        refine lv_iload (pc := 21) hx hb dX1_find_21 (lv_at hl 4 rfl) ?_
        refine lv_if_lt (pc := 23) (tgt := 37) hx hb dX1_find_23 (by decide) (fun c14 => ?_) (fun c14 => ?_)
        · have hd := wt_it hd c14
          exact hX6 () (Option.some.inj hd) _ _ _ hW hS hl
        · have hd := wt_if hd c14
          refine lv_iload (pc := 26) hx hb dX1_find_26 (lv_at hl 4 rfl) ?_
          refine lv_bipush (pc := 28) (v := 60) hx hb dX1_find_28 (by decide) ?_
          refine lv_icmp_gt (pc := 30) (tgt := 37) hx hb dX1_find_30 (by decide) (fun c15 => ?_) (fun c15 => ?_)
          · have hd := wt_it hd c15
            exact hX6 () (Option.some.inj hd) _ _ _ hW hS hl
          · have hd := wt_if hd c15
            refine lv_iconst (pc := 33) (v := 1) hx hb dX1_find_33 (by decide) ?_
            refine lv_goto (pc := 34) (tgt := 38) hx hb dX1_find_34 (by decide) ?_
            obtain ⟨w16, hc17, hd⟩ := wt_bd_o hd
            refine kX1_need (pc := 38) hfl hx hb hml hown hts hC hW hS hc17 hl.1 (Nat.le_of_ble_eq_true rfl) ⟨Nat.le_of_ble_eq_true rfl, Nat.le_of_ble_eq_true rfl⟩ ⟨(Nat.le_of_ble_eq_true rfl), (Nat.le_of_ble_eq_true rfl)⟩ q676 dX1_find_38 (fun x_ hx_ E_ ce_ q9_ H locs hXB hS hce hvn hfc => ?_) (fun o18 ho_ H locs hW hS => ?_)
            · have hd := wt_rs_r hx_ hd
              have hd := wt_rs_r (Option.some.inj hd) hq5
              exact hx_out (fun z hz => (hno z hz).elim) hlocks hce hvn hfc (Option.some.inj hd) hXB hS (Nat.le_of_ble_eq_true rfl) (Nat.le_of_ble_eq_true rfl)
            · have hd := wt_rs_l ho_ hd
              refine lv_aload_n (pc := 41) hx hb dX1_find_41 rfl (lv_at hl 0 rfl) ?_
              obtain ⟨ad19, h20, hd⟩ := wt_bd_o hd
              refine hr_get (pc := 42) hx hb hts hown hK hW (hgA_o h20) hf_0_1 (fun _ h => h) q536 dX1_find_42 ?_
              obtain ⟨ad21, h22, hd⟩ := wt_bd_o hd
              refine hr_getN (pc := 45) hx hb hts hown hK hT hW (hgA_o h22) hf_2_0 (fun _ h => h) q515 dX1_find_45 ?_
              obtain ⟨h23, hd⟩ := wt_ck_o hd
              obtain ⟨w24, hc25, hd⟩ := wt_bd_o hd
              refine kJ2_size (pc := 48) hx hb hml hown hts hC hW hS h23 hc25 hl.1 (Nat.le_of_ble_eq_true rfl) ⟨Nat.le_of_ble_eq_true rfl, Nat.le_of_ble_eq_true rfl⟩ ⟨Nat.le_of_ble_eq_true rfl, Nat.le_of_ble_eq_true rfl⟩ q666 dX1_find_48 (fun H locs hW hS => ?_)
              refine lv_bipush (pc := 51) (v := 8) hx hb dX1_find_51 (by decide) ?_
              refine lv_icmp_ne (pc := 53) (tgt := 58) hx hb dX1_find_53 (by decide) (fun c26 => ?_) (fun c26 => ?_)
              · have hd := wt_if hd c26
                refine lv_aload_n (pc := 58) hx hb dX1_find_58 rfl (lv_at hl 0 rfl) ?_
                obtain ⟨ad27, h28, hd⟩ := wt_bd_o hd
                refine hr_get (pc := 59) hx hb hts hown hK hW (hgA_o h28) hf_0_1 (fun _ h => h) q536 dX1_find_59 ?_
                obtain ⟨ad29, h30, hd⟩ := wt_bd_o hd
                refine hr_getN (pc := 62) hx hb hts hown hK hT hW (hgA_o h30) hf_2_0 (fun _ h => h) q515 dX1_find_62 ?_
                obtain ⟨τ31, eτ31, hd⟩ := wt_lt_o hd
                refine hr_new (pc := 65) (ci := 10) (fs := [.int 0, .int 0, .int 0, .int 0]) hx hb hts hown hK hW hS hA rfl tyX13 tyX13_ok (by decide +kernel) q1162 q1163 q99 eτ31 (Nat.le_of_ble_eq_true rfl) (Nat.le_of_ble_eq_true rfl) dX1_find_65 (fun H hW hS => ?_)
                refine lv_dup (pc := 68) hx hb dX1_find_68 rfl ?_
                refine lv_iload_n (pc := 69) hx hb dX1_find_69 rfl (lv_at hl 1 rfl) ?_
                refine lv_iload_n (pc := 70) hx hb dX1_find_70 rfl (lv_at hl 2 rfl) ?_
                refine lv_iload_n (pc := 71) hx hb dX1_find_71 rfl (lv_at hl 3 rfl) ?_
                refine lv_iload (pc := 72) hx hb dX1_find_72 (lv_at hl 4 rfl) ?_
                obtain ⟨w32, hc33, hd⟩ := wt_bd_o hd
                refine kX13_init (pc := 74) hx hb hml hown hts hC hW hS hc33 hl.1 (Nat.le_of_ble_eq_true rfl) ⟨Nat.le_of_ble_eq_true rfl, Nat.le_of_ble_eq_true rfl⟩ ⟨Nat.le_of_ble_eq_true rfl, Nat.le_of_ble_eq_true rfl⟩ q1164 dX1_find_74 (fun H locs hW hS => ?_)
                obtain ⟨h34, hd⟩ := wt_ck_o hd
                obtain ⟨w35, hc36, hd⟩ := wt_bd_o hd
                refine kJ2_add (pc := 77) hx hb hml hown hts hC hW hS h34 hc36 hl.1 (Nat.le_of_ble_eq_true rfl) ⟨Nat.le_of_ble_eq_true rfl, Nat.le_of_ble_eq_true rfl⟩ ⟨(Nat.le_of_ble_eq_true rfl), (Nat.le_of_ble_eq_true rfl)⟩ q970 dX1_find_77 (fun H locs hW hS => ?_)
                refine lv_pop (pc := 80) hx hb dX1_find_80 rfl ?_
                refine lv_aload_n (pc := 81) hx hb dX1_find_81 rfl (lv_at hl 0 rfl) ?_
                obtain ⟨ad37, h38, hd⟩ := wt_bd_o hd
                refine hr_get (pc := 82) hx hb hts hown hK hW (hgA_o h38) hf_0_1 (fun _ h => h) q536 dX1_find_82 ?_
                obtain ⟨ad39, h40, hd⟩ := wt_bd_o hd
                refine hr_getN (pc := 85) hx hb hts hown hK hT hW (hgA_o h40) hf_2_0 (fun _ h => h) q515 dX1_find_85 ?_
                obtain ⟨h41, hd⟩ := wt_ck_o hd
                obtain ⟨w42, hc43, hd⟩ := wt_bd_o hd
                refine kJ2_size (pc := 88) hx hb hml hown hts hC hW hS h41 hc43 hl.1 (Nat.le_of_ble_eq_true rfl) ⟨Nat.le_of_ble_eq_true rfl, Nat.le_of_ble_eq_true rfl⟩ ⟨Nat.le_of_ble_eq_true rfl, Nat.le_of_ble_eq_true rfl⟩ q666 dX1_find_88 (fun H locs hW hS => ?_)
                refine lv_iconst (pc := 91) (v := 1) hx hb dX1_find_91 (by decide) ?_
                refine lv_isub (pc := 92) hx hb dX1_find_92 ?_
                have hd := wt_rs_r (Option.some.inj hd) hq5
                refine vx_ret ?_
                exact hx_iret hx hb hr rfl hlocks (Option.some.inj hd) hW hS dX1_find_93 (Nat.le_of_ble_eq_true rfl) (Nat.le_of_ble_eq_true rfl)
              · have hd := wt_it hd c26
                refine lv_iconst (pc := 56) (v := -1) hx hb dX1_find_56 (by decide) ?_
                have hd := wt_rs_r (Option.some.inj hd) hq5
                refine vx_ret ?_
                exact hx_iret hx hb hr rfl hlocks (Option.some.inj hd) hW hS dX1_find_57 (Nat.le_of_ble_eq_true rfl) (Nat.le_of_ble_eq_true rfl)
theorem kX1_find {p : Program} {l : Launch} {e : Env} {R : Room} {s : State} {m : MethodId} {args : Array Value} {below : List Frame} {meth : Method} {c : Code} {H : Heap} {locs : List Loc} {cells slots : Nat} {Q : State → Prop} {cc : ByteArray} {pc : Nat} {ls : Array Slot} {rest : List Value} {nL : Nat} {own : String} {index : Nat} {G : HG} {A : Nat → Prop} {τ : HP} {o_ : Nat} {a0 : Int32} {a1 : Int32} {a2 : Int32} {a3 : Int32} {out_ : (Int32 × HP) ⊕ (Nat × Nat × HP)} (hfl : l.stackTraces = false) (hx : p.tables.exec = Jvm.exec) (hb : c.code = cc) (hml : c.maxLocals = nL) (hown : s.vm.findClass own = some m.cls) (hts : ∀ w ∈ lw_all, w.before args s = true) (hC : Hcx G A s) (hW : Hw G A τ H) (hS : va_S A s.heap H locs) (hrc : hcl τ o_ = some 0) (hd : eX1_find τ o_ a0 a1 a2 a3 = some out_) (hsz : ls.size = nL) (hrm : (rest.map fun v => v.category).sum ≤ 8) (hR : 8 ≤ R.frames ∧ 187 ≤ R.locals) (hcs : (cells + 3) ≤ R.cells ∧ (slots + 42) ≤ R.slots) (hlk : Cond.methodLink own index yX1_find ∈ lw_all) (hdg : decode cc pc = .ok (.invokevirtual index, 3)) (kx : ∀ x_ : Nat × Nat × HP, Sum.inr x_ = out_ → ∀ (E : String) (ce : Cell) (q9 : Addr) (H1 : Heap) (locs1 : List Loc), hXb G A E q9 x_ H1 → va_S A s.heap H1 locs1 → H1[q9]? = some ce → ce.vm = .none → s.vm.findClass E = some ce.cls → vx_W p l e R s m args below meth c H1 locs1 (cells + 3) (slots + 42) Q (F0 m pc ls rest) q9) (kk : ∀ o_1 : Int32 × HP, Sum.inl o_1 = out_ → ∀ (H1 : Heap) (locs1 : List Loc), Hw G A o_1.2 H1 → va_S A s.heap H1 locs1 → W p l e R s m args below meth c H1 locs1 (cells + 3) (slots + 42) Q (F0 m (pc + 3) ls (.int o_1.1 :: rest))) : W p l e R s m args below meth c H locs cells slots Q (F0 m pc ls (.int a3 :: .int a2 :: .int a1 :: .int a0 :: .ref o_ :: rest)) := by
  refine vx_calli (vx_runV (As := [.int a0, .int a1, .int a2, .int a3]) (rest := rest) ⟨hx, hb, hml, hown, hts⟩ (wX1_find l hfl hd) (cwV 4 hts (lw_V hlk q1159 q1160 q66 q1161) rfl rfl rfl (by decide +kernel) hR) (hr_preV hC hW hS hrc rfl rfl) rfl rfl hsz rfl (lv_room hrm) hdg hcs) hS (fun _ _ h => h) (fun _ h => h) (fun _ _ h => h) (fun E ce q9 u t H1 locs1 ht hvm hp hB hz hk hS1 hce hvn hfc => ?_) (fun r u t H1 locs1 ht hvm hp hB hz hk hS1 => ?_)
  · rw [ht] at hB
    exact kx u hp E ce q9 H1 locs1 hB hS1 hce hvn hfc
  · have hW1 : Hw G A u t.heap := hB
    rw [ht] at hW1
    exact kk (r, u) hp H1 locs1 hW1 hS1
noncomputable def eX1_findOf (τ : HP) (o_ : Nat) (a0 : Int32) : Option ((Nat) ⊕ (Nat × Nat × HP)) :=
  wt_bd (if a0 < 0 then (some (.inl ())) else (wt_bd (hgA τ o_ [0] 1) fun ad6 => wt_bd (hgA τ ad6 [2] 0) fun ad8 => wt_ck (hcl τ ad8 = some 13) <| wt_bd (eJ2_size τ ad8) fun w11 => if a0 < w11 then (wt_bd (hgA τ o_ [0] 1) fun ad14 => wt_bd (hgA τ ad14 [2] 0) fun ad16 => wt_ck (hcl τ ad16 = some 13) <| wt_bd (eJ2_get τ ad16 a0) fun w19 => wt_ck (hcl τ w19 = some 10) <| some (.inr (.inl w19))) else (some (.inl ())))) fun w1 => wt_rs w1 (fun w1 => some (.inr (102, 0, τ))) (fun z_ => some z_)
set_option maxHeartbeats 4000000 in
theorem wX1_findOf (l : Launch) (hfl : l.stackTraces = false) {G : HG} {A : Nat → Prop} {τ : HP} {o_ : Nat} {a0 : Int32} {out_ : (Nat) ⊕ (Nat × Nat × HP)} (hd : eX1_findOf τ o_ a0 = some out_) : vx_Met l yX1_findOf (ws_ yX1_findOf cX1_findOf 2 (some (.object "WoolThreads$Find"))) ({ frames := 6, cells := 1, slots := 6, locals := 110 }) (hPc G A τ [.ref o_, .int a0]) (hXr G A (fun r u => Sum.inl r = out_ ∧ u = τ)) (hXX G A out_) 1 6 A := by
  refine vx_ofW (cc := cX1_findOf) (maxL := 2) (ret := (some (.object "WoolThreads$Find"))) (by decide) rfl ?_
  intro p_ e_ s_ m_ args_ below_ meth_ c_ s₁_ B hml hno hv
  obtain ⟨rfl, hW, hC⟩ := hv
  have hx := B.exec
  have hb := B.bytes
  have hr := B.returns
  have hts := atoms_spec (ws := (ws_ yX1_findOf cX1_findOf 2 (some (.object "WoolThreads$Find")))) B.pre
  have hts : ∀ w ∈ lw_all, w.before _ s_ = true := fun w h => hts w (List.mem_cons_of_mem _ h)
  have hown : s_.vm.findClass RX1 = some m_.cls := findClass_of_methodNamed B.named
  have hlocks := B.notSynchronized
  have hK := hC.1
  have hT := hC.2.1
  have hL := hC.2.2.1
  have hZ := hC.2.2.2.2.1
  have hA := hC.2.2.2.2.2
  have hS : va_S A s_.heap s_.heap [] := va_S.rf
  have hl := lv_entry ([.ref o_, .int a0]) (n := 2) (Nat.le_of_ble_eq_true rfl)
  rw [lg_entry_eq]
  generalize (lg_sl ([.ref o_, .int a0]) ++ List.replicate (2 - (lg_sl ([.ref o_, .int a0])).length) Slot.unset).toArray = ls at hl ⊢
  have hl : lv_has ls 2 [(0, .ref o_), (1, .int a0)] := hl
  unfold eX1_findOf at hd
  refine lv_iload_n (pc := 0) hx hb dX1_findOf_0 rfl (lv_at hl 1 rfl) ?_
  obtain ⟨w1, hj2, hq3⟩ := wt_bd_o hd
  have hX4 : ∀ w1_ : Unit, (Sum.inl w1_ : (Unit) ⊕ _) = w1 → ∀ (H : Heap) (locs : List Loc) (ls : Array Slot), Hw G A τ H → va_S A s_.heap H locs → lv_has ls 2 [] → W p_ l e_ (headSpec (ws_ yX1_findOf cX1_findOf 2 (some (.object "WoolThreads$Find"))) ({ frames := 6, cells := 1, slots := 6, locals := 110 })).room s_ m_ ([.ref o_, .int a0] : List Value).toArray below_ meth_ c_ H locs 0 0 (vx_MQ below_ (hXr G A (fun r u => Sum.inl r = out_ ∧ u = τ)) (hXX G A out_) ([.ref o_, .int a0] : List Value).toArray s_ 1 6 A) (F0 m_ 18 ls []) := by
    intro w1_ hw_
    have hd := wt_rs_l hw_ hq3
    clear hj2 hq3
    intro H locs ls hW hS hl
    exact hx_throw_iob_X1 (pc := 18) hx hb hfl hts hown hC hW hS (hl.1.trans hml.symm) hlocks hno (Option.some.inj hd) dX1_findOf_18 dX1_findOf_21 dX1_findOf_22 dX1_findOf_25 (Nat.le_of_ble_eq_true rfl) (Nat.le_of_ble_eq_true rfl) ⟨Nat.le_of_ble_eq_true rfl, Nat.le_of_ble_eq_true rfl⟩ (Nat.le_of_ble_eq_true rfl) (Nat.le_of_ble_eq_true rfl)
  have hd := hj2
  refine lv_if_lt (pc := 1) (tgt := 18) hx hb dX1_findOf_1 (by decide) (fun c5 => ?_) (fun c5 => ?_)
  · have hd := wt_it hd c5
    exact hX4 () (Option.some.inj hd) _ _ _ hW hS (lv_sub hl [] rfl)
  · have hd := wt_if hd c5
    refine lv_iload_n (pc := 4) hx hb dX1_findOf_4 rfl (lv_at hl 1 rfl) ?_
    refine lv_aload_n (pc := 5) hx hb dX1_findOf_5 rfl (lv_at hl 0 rfl) ?_
    obtain ⟨ad6, h7, hd⟩ := wt_bd_o hd
    refine hr_get (pc := 6) hx hb hts hown hK hW (hgA_o h7) hf_0_1 (fun _ h => h) q536 dX1_findOf_6 ?_
    obtain ⟨ad8, h9, hd⟩ := wt_bd_o hd
    refine hr_getN (pc := 9) hx hb hts hown hK hT hW (hgA_o h9) hf_2_0 (fun _ h => h) q515 dX1_findOf_9 ?_
    obtain ⟨h10, hd⟩ := wt_ck_o hd
    obtain ⟨w11, hc12, hd⟩ := wt_bd_o hd
    refine kJ2_size (pc := 12) hx hb hml hown hts hC hW hS h10 hc12 hl.1 (Nat.le_of_ble_eq_true rfl) ⟨Nat.le_of_ble_eq_true rfl, Nat.le_of_ble_eq_true rfl⟩ ⟨Nat.le_of_ble_eq_true rfl, Nat.le_of_ble_eq_true rfl⟩ q666 dX1_findOf_12 (fun H locs hW hS => ?_)
    refine lv_icmp_lt (pc := 15) (tgt := 26) hx hb dX1_findOf_15 (by decide) (fun c13 => ?_) (fun c13 => ?_)
    · have hd := wt_it hd c13
      refine lv_aload_n (pc := 26) hx hb dX1_findOf_26 rfl (lv_at hl 0 rfl) ?_
      obtain ⟨ad14, h15, hd⟩ := wt_bd_o hd
      refine hr_get (pc := 27) hx hb hts hown hK hW (hgA_o h15) hf_0_1 (fun _ h => h) q536 dX1_findOf_27 ?_
      obtain ⟨ad16, h17, hd⟩ := wt_bd_o hd
      refine hr_getN (pc := 30) hx hb hts hown hK hT hW (hgA_o h17) hf_2_0 (fun _ h => h) q515 dX1_findOf_30 ?_
      refine lv_iload_n (pc := 33) hx hb dX1_findOf_33 rfl (lv_at hl 1 rfl) ?_
      obtain ⟨h18, hd⟩ := wt_ck_o hd
      obtain ⟨w19, hc20, hd⟩ := wt_bd_o hd
      refine kJ2_get (pc := 34) hx hb hml hown hts hC hW hS h18 hc20 hl.1 (Nat.le_of_ble_eq_true rfl) ⟨Nat.le_of_ble_eq_true rfl, Nat.le_of_ble_eq_true rfl⟩ ⟨Nat.le_of_ble_eq_true rfl, Nat.le_of_ble_eq_true rfl⟩ q1024 dX1_findOf_34 (fun H locs hW hS => ?_)
      obtain ⟨h21, hd⟩ := wt_ck_o hd
      refine hr_cast (pc := 37) (ci := 10) hx hb hts hown hK hW h21 rfl rfl q1162 dX1_findOf_37 ?_
      have hd := wt_rs_r (Option.some.inj hd) hq3
      refine vx_ret ?_
      exact hx_aret hx hb hr (Or.inl ⟨_, rfl⟩) hlocks ⟨(Option.some.inj hd), rfl⟩ hW hS dX1_findOf_40 (Nat.le_of_ble_eq_true rfl) (Nat.le_of_ble_eq_true rfl)
    · have hd := wt_if hd c13
      exact hX4 () (Option.some.inj hd) _ _ _ hW hS (lv_sub hl [] rfl)
theorem kX1_findOf {p : Program} {l : Launch} {e : Env} {R : Room} {s : State} {m : MethodId} {args : Array Value} {below : List Frame} {meth : Method} {c : Code} {H : Heap} {locs : List Loc} {cells slots : Nat} {Q : State → Prop} {cc : ByteArray} {pc : Nat} {ls : Array Slot} {rest : List Value} {nL : Nat} {own : String} {index : Nat} {G : HG} {A : Nat → Prop} {τ : HP} {o_ : Nat} {a0 : Int32} {out_ : (Nat) ⊕ (Nat × Nat × HP)} (hfl : l.stackTraces = false) (hx : p.tables.exec = Jvm.exec) (hb : c.code = cc) (hml : c.maxLocals = nL) (hown : s.vm.findClass own = some m.cls) (hts : ∀ w ∈ lw_all, w.before args s = true) (hC : Hcx G A s) (hW : Hw G A τ H) (hS : va_S A s.heap H locs) (hrc : hcl τ o_ = some 0) (hd : eX1_findOf τ o_ a0 = some out_) (hsz : ls.size = nL) (hrm : (rest.map fun v => v.category).sum ≤ 8) (hR : 7 ≤ R.frames ∧ 131 ≤ R.locals) (hcs : (cells + 1) ≤ R.cells ∧ (slots + 6) ≤ R.slots) (hlk : Cond.methodLink own index yX1_findOf ∈ lw_all) (hdg : decode cc pc = .ok (.invokevirtual index, 3)) (kx : ∀ x_ : Nat × Nat × HP, Sum.inr x_ = out_ → ∀ (E : String) (ce : Cell) (q9 : Addr) (H1 : Heap) (locs1 : List Loc), hXb G A E q9 x_ H1 → va_S A s.heap H1 locs1 → H1[q9]? = some ce → ce.vm = .none → s.vm.findClass E = some ce.cls → vx_W p l e R s m args below meth c H1 locs1 (cells + 1) (slots + 6) Q (F0 m pc ls rest) q9) (kk : ∀ o_1 : Nat, Sum.inl o_1 = out_ → ∀ (H1 : Heap) (locs1 : List Loc), Hw G A τ H1 → va_S A s.heap H1 locs1 → W p l e R s m args below meth c H1 locs1 (cells + 1) (slots + 6) Q (F0 m (pc + 3) ls (.ref o_1 :: rest))) : W p l e R s m args below meth c H locs cells slots Q (F0 m pc ls (.int a0 :: .ref o_ :: rest)) := by
  refine vx_callr (vx_runV (As := [.int a0]) (rest := rest) ⟨hx, hb, hml, hown, hts⟩ (wX1_findOf l hfl hd) (cwV 1 hts (lw_V hlk q1217 qs17 q66 q1218) rfl rfl rfl (by decide +kernel) hR) (hr_preV hC hW hS hrc rfl rfl) rfl rfl hsz rfl (lv_room hrm) hdg hcs) hS (fun _ _ h => h) (fun _ h => h) (fun _ _ h => h) (fun E ce q9 u t H1 locs1 ht hvm hp hB hz hk hS1 hce hvn hfc => ?_) (fun u ra t H1 locs1 ht hvm hp hB hz hk hS1 => ?_)
  · rw [ht] at hB
    exact kx u hp E ce q9 H1 locs1 hB hS1 hce hvn hfc
  · have hW1 : Hw G A u t.heap := hB.2
    rw [ht] at hW1
    obtain ⟨⟨hp, rfl⟩, -⟩ := hB
    exact kk ra hp H1 locs1 hW1 hS1
noncomputable def eX1_found (τ : HP) (o_ : Nat) (a0 : Int32) (a1 : Int32) : Option ((Int32) ⊕ (Nat × Nat × HP)) :=
  wt_ck (hcl τ o_ = some 0) <| wt_bd (eX1_findOf τ o_ a0) fun w2 => wt_rs w2 (fun o4 => wt_bd (if a1 < 0 then (some (.inl ())) else (if (3 : Int32) < a1 then (some (.inl ())) else (wt_bd (eX1_need τ (1 : Int32)) fun w11 => wt_rs w11 (fun o13 => if a1 = 0 then (wt_bd (hgI τ o4 [10] 0) fun f23 => some (.inr (.inl f23))) else (if a1 = (1 : Int32) then (wt_bd (hgI τ o4 [10] 1) fun f21 => some (.inr (.inl f21))) else (if a1 = (2 : Int32) then (wt_bd (hgI τ o4 [10] 2) fun f19 => some (.inr (.inl f19))) else (wt_bd (hgI τ o4 [10] 3) fun f17 => some (.inr (.inl f17)))))) (fun x_ => some (.inr (.inr x_)))))) fun w5 => wt_rs w5 (fun w5 => wt_bd (eX1_need τ (0 : Int32)) fun w25 => wt_rs w25 (fun o27 => if a1 = 0 then (wt_bd (hgI τ o4 [10] 0) fun f37 => some (.inl f37)) else (if a1 = (1 : Int32) then (wt_bd (hgI τ o4 [10] 1) fun f35 => some (.inl f35)) else (if a1 = (2 : Int32) then (wt_bd (hgI τ o4 [10] 2) fun f33 => some (.inl f33)) else (wt_bd (hgI τ o4 [10] 3) fun f31 => some (.inl f31))))) (fun x_ => some (.inr x_))) (fun z_ => some z_)) (fun x_ => some (.inr x_))
set_option maxHeartbeats 4000000 in
theorem wX1_found (l : Launch) (hfl : l.stackTraces = false) {G : HG} {A : Nat → Prop} {τ : HP} {o_ : Nat} {a0 : Int32} {a1 : Int32} {out_ : (Int32) ⊕ (Nat × Nat × HP)} (hd : eX1_found τ o_ a0 a1 = some out_) : vx_Met l yX1_found (ws_ yX1_found cX1_found 4 (some .int)) ({ frames := 7, cells := 2, slots := 12, locals := 131 }) (hPc G A τ [.ref o_, .int a0, .int a1]) (hXi G A (fun r u => Sum.inl r = out_ ∧ u = τ)) (hXX G A out_) 2 12 A := by
  refine vx_ofW (cc := cX1_found) (maxL := 4) (ret := (some .int)) (by decide) rfl ?_
  intro p_ e_ s_ m_ args_ below_ meth_ c_ s₁_ B hml hno hv
  obtain ⟨rfl, hW, hC⟩ := hv
  have hx := B.exec
  have hb := B.bytes
  have hr := B.returns
  have hts := atoms_spec (ws := (ws_ yX1_found cX1_found 4 (some .int))) B.pre
  have hts : ∀ w ∈ lw_all, w.before _ s_ = true := fun w h => hts w (List.mem_cons_of_mem _ h)
  have hown : s_.vm.findClass RX1 = some m_.cls := findClass_of_methodNamed B.named
  have hlocks := B.notSynchronized
  have hK := hC.1
  have hT := hC.2.1
  have hL := hC.2.2.1
  have hZ := hC.2.2.2.2.1
  have hA := hC.2.2.2.2.2
  have hS : va_S A s_.heap s_.heap [] := va_S.rf
  have hl := lv_entry ([.ref o_, .int a0, .int a1]) (n := 4) (Nat.le_of_ble_eq_true rfl)
  rw [lg_entry_eq]
  generalize (lg_sl ([.ref o_, .int a0, .int a1]) ++ List.replicate (4 - (lg_sl ([.ref o_, .int a0, .int a1])).length) Slot.unset).toArray = ls at hl ⊢
  have hl : lv_has ls 4 [(0, .ref o_), (1, .int a0), (2, .int a1)] := hl
  unfold eX1_found at hd
  refine lv_aload_n (pc := 0) hx hb dX1_found_0 rfl (lv_at hl 0 rfl) ?_
  refine lv_iload_n (pc := 1) hx hb dX1_found_1 rfl (lv_at hl 1 rfl) ?_
  obtain ⟨h1, hd⟩ := wt_ck_o hd
  obtain ⟨w2, hc3, hd⟩ := wt_bd_o hd
  refine kX1_findOf (pc := 2) hfl hx hb hml hown hts hC hW hS h1 hc3 hl.1 (Nat.le_of_ble_eq_true rfl) ⟨Nat.le_of_ble_eq_true rfl, Nat.le_of_ble_eq_true rfl⟩ ⟨(Nat.le_of_ble_eq_true rfl), (Nat.le_of_ble_eq_true rfl)⟩ q1215 dX1_found_2 (fun x_ hx_ E_ ce_ q9_ H locs hXB hS hce hvn hfc => ?_) (fun o4 ho_ H locs hW hS => ?_)
  · have hd := wt_rs_r hx_ hd
    exact hx_out (fun z hz => (hno z hz).elim) hlocks hce hvn hfc (Option.some.inj hd) hXB hS (Nat.le_of_ble_eq_true rfl) (Nat.le_of_ble_eq_true rfl)
  · have hd := wt_rs_l ho_ hd
    refine lv_astore_n (pc := 5) (lv' := [(3, .ref o4), (0, .ref o_), (1, .int a0), (2, .int a1)]) hx hb dX1_found_5 rfl hl (by decide) rfl (fun ls hl => ?_)
    refine lv_iload_n (pc := 6) hx hb dX1_found_6 rfl (lv_at hl 3 rfl) ?_
    obtain ⟨w5, hj6, hq7⟩ := wt_bd_o hd
    have hX8 : ∀ w5_ : Unit, (Sum.inl w5_ : (Unit) ⊕ _) = w5 → ∀ (H : Heap) (locs : List Loc) (ls : Array Slot), Hw G A τ H → va_S A s_.heap H locs → lv_has ls 4 [(2, .int a1), (3, .ref o4)] → W p_ l e_ (headSpec (ws_ yX1_found cX1_found 4 (some .int)) ({ frames := 7, cells := 2, slots := 12, locals := 131 })).room s_ m_ ([.ref o_, .int a0, .int a1] : List Value).toArray below_ meth_ c_ H locs 1 6 (vx_MQ below_ (hXi G A (fun r u => Sum.inl r = out_ ∧ u = τ)) (hXX G A out_) ([.ref o_, .int a0, .int a1] : List Value).toArray s_ 2 12 A) (F0 m_ 19 ls []) := by
      intro w5_ hw_
      have hd := wt_rs_l hw_ hq7
      clear hj6 hq7
      intro H locs ls hW hS hl
      refine lv_iconst (pc := 19) (v := 0) hx hb dX1_found_19 (by decide) ?_
      obtain ⟨w25, hc26, hd⟩ := wt_bd_o hd
      refine kX1_need (pc := 20) hfl hx hb hml hown hts hC hW hS hc26 hl.1 (Nat.le_of_ble_eq_true rfl) ⟨Nat.le_of_ble_eq_true rfl, Nat.le_of_ble_eq_true rfl⟩ ⟨(Nat.le_of_ble_eq_true rfl), (Nat.le_of_ble_eq_true rfl)⟩ q676 dX1_found_20 (fun x_ hx_ E_ ce_ q9_ H locs hXB hS hce hvn hfc => ?_) (fun o27 ho_ H locs hW hS => ?_)
      · have hd := wt_rs_r hx_ hd
        exact hx_out (fun z hz => (hno z hz).elim) hlocks hce hvn hfc (Option.some.inj hd) hXB hS (Nat.le_of_ble_eq_true rfl) (Nat.le_of_ble_eq_true rfl)
      · have hd := wt_rs_l ho_ hd
        refine lv_iload_n (pc := 23) hx hb dX1_found_23 rfl (lv_at hl 0 rfl) ?_
        refine lv_if_ne (pc := 24) (tgt := 34) hx hb dX1_found_24 (by decide) (fun c28 => ?_) (fun c28 => ?_)
        · have hd := wt_if hd c28
          refine lv_iload_n (pc := 34) hx hb dX1_found_34 rfl (lv_at hl 0 rfl) ?_
          refine lv_iconst (pc := 35) (v := 1) hx hb dX1_found_35 (by decide) ?_
          refine lv_icmp_ne (pc := 36) (tgt := 46) hx hb dX1_found_36 (by decide) (fun c29 => ?_) (fun c29 => ?_)
          · have hd := wt_if hd c29
            refine lv_iload_n (pc := 46) hx hb dX1_found_46 rfl (lv_at hl 0 rfl) ?_
            refine lv_iconst (pc := 47) (v := 2) hx hb dX1_found_47 (by decide) ?_
            refine lv_icmp_ne (pc := 48) (tgt := 58) hx hb dX1_found_48 (by decide) (fun c30 => ?_) (fun c30 => ?_)
            · have hd := wt_if hd c30
              refine lv_aload_n (pc := 58) hx hb dX1_found_58 rfl (lv_at hl 1 rfl) ?_
              obtain ⟨f31, h32, hd⟩ := wt_bd_o hd
              refine hr_getN (pc := 59) hx hb hts hown hK hT hW (hgI_o h32) hf_10_3 (fun _ h => h) q1179 dX1_found_59 ?_
              refine vx_ret ?_
              exact hx_iret hx hb hr rfl hlocks ⟨(Option.some.inj hd), rfl⟩ hW hS dX1_found_62 (Nat.le_of_ble_eq_true rfl) (Nat.le_of_ble_eq_true rfl)
            · have hd := wt_it hd c30
              refine lv_aload_n (pc := 51) hx hb dX1_found_51 rfl (lv_at hl 1 rfl) ?_
              obtain ⟨f33, h34, hd⟩ := wt_bd_o hd
              refine hr_getN (pc := 52) hx hb hts hown hK hT hW (hgI_o h34) hf_10_2 (fun _ h => h) q1176 dX1_found_52 ?_
              refine lv_goto (pc := 55) (tgt := 62) hx hb dX1_found_55 (by decide) ?_
              refine vx_ret ?_
              exact hx_iret hx hb hr rfl hlocks ⟨(Option.some.inj hd), rfl⟩ hW hS dX1_found_62 (Nat.le_of_ble_eq_true rfl) (Nat.le_of_ble_eq_true rfl)
          · have hd := wt_it hd c29
            refine lv_aload_n (pc := 39) hx hb dX1_found_39 rfl (lv_at hl 1 rfl) ?_
            obtain ⟨f35, h36, hd⟩ := wt_bd_o hd
            refine hr_getN (pc := 40) hx hb hts hown hK hT hW (hgI_o h36) hf_10_1 (fun _ h => h) q1173 dX1_found_40 ?_
            refine lv_goto (pc := 43) (tgt := 62) hx hb dX1_found_43 (by decide) ?_
            refine vx_ret ?_
            exact hx_iret hx hb hr rfl hlocks ⟨(Option.some.inj hd), rfl⟩ hW hS dX1_found_62 (Nat.le_of_ble_eq_true rfl) (Nat.le_of_ble_eq_true rfl)
        · have hd := wt_it hd c28
          refine lv_aload_n (pc := 27) hx hb dX1_found_27 rfl (lv_at hl 1 rfl) ?_
          obtain ⟨f37, h38, hd⟩ := wt_bd_o hd
          refine hr_getN (pc := 28) hx hb hts hown hK hT hW (hgI_o h38) hf_10_0 (fun _ h => h) q1170 dX1_found_28 ?_
          refine lv_goto (pc := 31) (tgt := 62) hx hb dX1_found_31 (by decide) ?_
          refine vx_ret ?_
          exact hx_iret hx hb hr rfl hlocks ⟨(Option.some.inj hd), rfl⟩ hW hS dX1_found_62 (Nat.le_of_ble_eq_true rfl) (Nat.le_of_ble_eq_true rfl)
    have hd := hj6
    refine lv_if_lt (pc := 7) (tgt := 19) hx hb dX1_found_7 (by decide) (fun c9 => ?_) (fun c9 => ?_)
    · have hd := wt_it hd c9
      exact hX8 () (Option.some.inj hd) _ _ _ hW hS (lv_sub hl [3, 0] rfl)
    · have hd := wt_if hd c9
      refine lv_iload_n (pc := 10) hx hb dX1_found_10 rfl (lv_at hl 3 rfl) ?_
      refine lv_iconst (pc := 11) (v := 3) hx hb dX1_found_11 (by decide) ?_
      refine lv_icmp_gt (pc := 12) (tgt := 19) hx hb dX1_found_12 (by decide) (fun c10 => ?_) (fun c10 => ?_)
      · have hd := wt_it hd c10
        exact hX8 () (Option.some.inj hd) _ _ _ hW hS (lv_sub hl [3, 0] rfl)
      · have hd := wt_if hd c10
        refine lv_iconst (pc := 15) (v := 1) hx hb dX1_found_15 (by decide) ?_
        refine lv_goto (pc := 16) (tgt := 20) hx hb dX1_found_16 (by decide) ?_
        obtain ⟨w11, hc12, hd⟩ := wt_bd_o hd
        refine kX1_need (pc := 20) hfl hx hb hml hown hts hC hW hS hc12 hl.1 (Nat.le_of_ble_eq_true rfl) ⟨Nat.le_of_ble_eq_true rfl, Nat.le_of_ble_eq_true rfl⟩ ⟨(Nat.le_of_ble_eq_true rfl), (Nat.le_of_ble_eq_true rfl)⟩ q676 dX1_found_20 (fun x_ hx_ E_ ce_ q9_ H locs hXB hS hce hvn hfc => ?_) (fun o13 ho_ H locs hW hS => ?_)
        · have hd := wt_rs_r hx_ hd
          have hd := wt_rs_r (Option.some.inj hd) hq7
          exact hx_out (fun z hz => (hno z hz).elim) hlocks hce hvn hfc (Option.some.inj hd) hXB hS (Nat.le_of_ble_eq_true rfl) (Nat.le_of_ble_eq_true rfl)
        · have hd := wt_rs_l ho_ hd
          refine lv_iload_n (pc := 23) hx hb dX1_found_23 rfl (lv_at hl 3 rfl) ?_
          refine lv_if_ne (pc := 24) (tgt := 34) hx hb dX1_found_24 (by decide) (fun c14 => ?_) (fun c14 => ?_)
          · have hd := wt_if hd c14
            refine lv_iload_n (pc := 34) hx hb dX1_found_34 rfl (lv_at hl 3 rfl) ?_
            refine lv_iconst (pc := 35) (v := 1) hx hb dX1_found_35 (by decide) ?_
            refine lv_icmp_ne (pc := 36) (tgt := 46) hx hb dX1_found_36 (by decide) (fun c15 => ?_) (fun c15 => ?_)
            · have hd := wt_if hd c15
              refine lv_iload_n (pc := 46) hx hb dX1_found_46 rfl (lv_at hl 3 rfl) ?_
              refine lv_iconst (pc := 47) (v := 2) hx hb dX1_found_47 (by decide) ?_
              refine lv_icmp_ne (pc := 48) (tgt := 58) hx hb dX1_found_48 (by decide) (fun c16 => ?_) (fun c16 => ?_)
              · have hd := wt_if hd c16
                refine lv_aload_n (pc := 58) hx hb dX1_found_58 rfl (lv_at hl 0 rfl) ?_
                obtain ⟨f17, h18, hd⟩ := wt_bd_o hd
                refine hr_getN (pc := 59) hx hb hts hown hK hT hW (hgI_o h18) hf_10_3 (fun _ h => h) q1179 dX1_found_59 ?_
                have hd := wt_rs_r (Option.some.inj hd) hq7
                refine vx_ret ?_
                exact hx_iret hx hb hr rfl hlocks ⟨(Option.some.inj hd), rfl⟩ hW hS dX1_found_62 (Nat.le_of_ble_eq_true rfl) (Nat.le_of_ble_eq_true rfl)
              · have hd := wt_it hd c16
                refine lv_aload_n (pc := 51) hx hb dX1_found_51 rfl (lv_at hl 0 rfl) ?_
                obtain ⟨f19, h20, hd⟩ := wt_bd_o hd
                refine hr_getN (pc := 52) hx hb hts hown hK hT hW (hgI_o h20) hf_10_2 (fun _ h => h) q1176 dX1_found_52 ?_
                refine lv_goto (pc := 55) (tgt := 62) hx hb dX1_found_55 (by decide) ?_
                have hd := wt_rs_r (Option.some.inj hd) hq7
                refine vx_ret ?_
                exact hx_iret hx hb hr rfl hlocks ⟨(Option.some.inj hd), rfl⟩ hW hS dX1_found_62 (Nat.le_of_ble_eq_true rfl) (Nat.le_of_ble_eq_true rfl)
            · have hd := wt_it hd c15
              refine lv_aload_n (pc := 39) hx hb dX1_found_39 rfl (lv_at hl 0 rfl) ?_
              obtain ⟨f21, h22, hd⟩ := wt_bd_o hd
              refine hr_getN (pc := 40) hx hb hts hown hK hT hW (hgI_o h22) hf_10_1 (fun _ h => h) q1173 dX1_found_40 ?_
              refine lv_goto (pc := 43) (tgt := 62) hx hb dX1_found_43 (by decide) ?_
              have hd := wt_rs_r (Option.some.inj hd) hq7
              refine vx_ret ?_
              exact hx_iret hx hb hr rfl hlocks ⟨(Option.some.inj hd), rfl⟩ hW hS dX1_found_62 (Nat.le_of_ble_eq_true rfl) (Nat.le_of_ble_eq_true rfl)
          · have hd := wt_it hd c14
            refine lv_aload_n (pc := 27) hx hb dX1_found_27 rfl (lv_at hl 0 rfl) ?_
            obtain ⟨f23, h24, hd⟩ := wt_bd_o hd
            refine hr_getN (pc := 28) hx hb hts hown hK hT hW (hgI_o h24) hf_10_0 (fun _ h => h) q1170 dX1_found_28 ?_
            refine lv_goto (pc := 31) (tgt := 62) hx hb dX1_found_31 (by decide) ?_
            have hd := wt_rs_r (Option.some.inj hd) hq7
            refine vx_ret ?_
            exact hx_iret hx hb hr rfl hlocks ⟨(Option.some.inj hd), rfl⟩ hW hS dX1_found_62 (Nat.le_of_ble_eq_true rfl) (Nat.le_of_ble_eq_true rfl)
theorem kX1_found {p : Program} {l : Launch} {e : Env} {R : Room} {s : State} {m : MethodId} {args : Array Value} {below : List Frame} {meth : Method} {c : Code} {H : Heap} {locs : List Loc} {cells slots : Nat} {Q : State → Prop} {cc : ByteArray} {pc : Nat} {ls : Array Slot} {rest : List Value} {nL : Nat} {own : String} {index : Nat} {G : HG} {A : Nat → Prop} {τ : HP} {o_ : Nat} {a0 : Int32} {a1 : Int32} {out_ : (Int32) ⊕ (Nat × Nat × HP)} (hfl : l.stackTraces = false) (hx : p.tables.exec = Jvm.exec) (hb : c.code = cc) (hml : c.maxLocals = nL) (hown : s.vm.findClass own = some m.cls) (hts : ∀ w ∈ lw_all, w.before args s = true) (hC : Hcx G A s) (hW : Hw G A τ H) (hS : va_S A s.heap H locs) (hrc : hcl τ o_ = some 0) (hd : eX1_found τ o_ a0 a1 = some out_) (hsz : ls.size = nL) (hrm : (rest.map fun v => v.category).sum ≤ 8) (hR : 8 ≤ R.frames ∧ 154 ≤ R.locals) (hcs : (cells + 2) ≤ R.cells ∧ (slots + 12) ≤ R.slots) (hlk : Cond.methodLink own index yX1_found ∈ lw_all) (hdg : decode cc pc = .ok (.invokevirtual index, 3)) (kx : ∀ x_ : Nat × Nat × HP, Sum.inr x_ = out_ → ∀ (E : String) (ce : Cell) (q9 : Addr) (H1 : Heap) (locs1 : List Loc), hXb G A E q9 x_ H1 → va_S A s.heap H1 locs1 → H1[q9]? = some ce → ce.vm = .none → s.vm.findClass E = some ce.cls → vx_W p l e R s m args below meth c H1 locs1 (cells + 2) (slots + 12) Q (F0 m pc ls rest) q9) (kk : ∀ o_1 : Int32, Sum.inl o_1 = out_ → ∀ (H1 : Heap) (locs1 : List Loc), Hw G A τ H1 → va_S A s.heap H1 locs1 → W p l e R s m args below meth c H1 locs1 (cells + 2) (slots + 12) Q (F0 m (pc + 3) ls (.int o_1 :: rest))) : W p l e R s m args below meth c H locs cells slots Q (F0 m pc ls (.int a1 :: .int a0 :: .ref o_ :: rest)) := by
  refine vx_calli (vx_runV (As := [.int a0, .int a1]) (rest := rest) ⟨hx, hb, hml, hown, hts⟩ (wX1_found l hfl hd) (cwV 2 hts (lw_V hlk q1212 q1213 q66 q1214) rfl rfl rfl (by decide +kernel) hR) (hr_preV hC hW hS hrc rfl rfl) rfl rfl hsz rfl (lv_room hrm) hdg hcs) hS (fun _ _ h => h) (fun _ h => h) (fun _ _ h => h) (fun E ce q9 u t H1 locs1 ht hvm hp hB hz hk hS1 hce hvn hfc => ?_) (fun r u t H1 locs1 ht hvm hp hB hz hk hS1 => ?_)
  · rw [ht] at hB
    exact kx u hp E ce q9 H1 locs1 hB hS1 hce hvn hfc
  · have hW1 : Hw G A u t.heap := hB
    rw [ht] at hW1
    obtain ⟨hp, rfl⟩ := hp
    exact kk r hp H1 locs1 hW1 hS1
noncomputable def eX1_drop (τ : HP) (o_ : Nat) (a0 : Int32) : Option ((Int32 × HP) ⊕ (Nat × Nat × HP)) :=
  wt_ck (hcl τ o_ = some 0) <| wt_bd (eX1_findOf τ o_ a0) fun w2 => wt_rs w2 (fun o4 => wt_bd (hgA τ o_ [0] 1) fun ad5 => wt_bd (hgA τ ad5 [2] 0) fun ad7 => wt_ck (hcl τ ad7 = some 13) <| wt_bd (eJ2_remove τ ad7 a0) fun w10 => wt_bd (hgA w10.2 o_ [0] 1) fun ad12 => wt_bd (hgA w10.2 ad12 [2] 0) fun ad14 => wt_ck (hcl w10.2 ad14 = some 13) <| wt_bd (eJ2_size w10.2 ad14) fun w17 => some (.inl (w17, w10.2))) (fun x_ => some (.inr x_))
set_option maxHeartbeats 4000000 in
theorem wX1_drop (l : Launch) (hfl : l.stackTraces = false) {G : HG} {A : Nat → Prop} {τ : HP} {o_ : Nat} {a0 : Int32} {out_ : (Int32 × HP) ⊕ (Nat × Nat × HP)} (hd : eX1_drop τ o_ a0 = some out_) : vx_Met l yX1_drop (ws_ yX1_drop cX1_drop 2 (some .int)) ({ frames := 7, cells := 1, slots := 6, locals := 131 }) (hPc G A τ [.ref o_, .int a0]) (hXi G A (fun r u => Sum.inl (r, u) = out_)) (hXX G A out_) 1 6 A := by
  refine vx_ofW (cc := cX1_drop) (maxL := 2) (ret := (some .int)) (by decide) rfl ?_
  intro p_ e_ s_ m_ args_ below_ meth_ c_ s₁_ B hml hno hv
  obtain ⟨rfl, hW, hC⟩ := hv
  have hx := B.exec
  have hb := B.bytes
  have hr := B.returns
  have hts := atoms_spec (ws := (ws_ yX1_drop cX1_drop 2 (some .int))) B.pre
  have hts : ∀ w ∈ lw_all, w.before _ s_ = true := fun w h => hts w (List.mem_cons_of_mem _ h)
  have hown : s_.vm.findClass RX1 = some m_.cls := findClass_of_methodNamed B.named
  have hlocks := B.notSynchronized
  have hK := hC.1
  have hT := hC.2.1
  have hL := hC.2.2.1
  have hZ := hC.2.2.2.2.1
  have hA := hC.2.2.2.2.2
  have hS : va_S A s_.heap s_.heap [] := va_S.rf
  have hl := lv_entry ([.ref o_, .int a0]) (n := 2) (Nat.le_of_ble_eq_true rfl)
  rw [lg_entry_eq]
  generalize (lg_sl ([.ref o_, .int a0]) ++ List.replicate (2 - (lg_sl ([.ref o_, .int a0])).length) Slot.unset).toArray = ls at hl ⊢
  have hl : lv_has ls 2 [(0, .ref o_), (1, .int a0)] := hl
  unfold eX1_drop at hd
  refine lv_aload_n (pc := 0) hx hb dX1_drop_0 rfl (lv_at hl 0 rfl) ?_
  refine lv_iload_n (pc := 1) hx hb dX1_drop_1 rfl (lv_at hl 1 rfl) ?_
  obtain ⟨h1, hd⟩ := wt_ck_o hd
  obtain ⟨w2, hc3, hd⟩ := wt_bd_o hd
  refine kX1_findOf (pc := 2) hfl hx hb hml hown hts hC hW hS h1 hc3 hl.1 (Nat.le_of_ble_eq_true rfl) ⟨Nat.le_of_ble_eq_true rfl, Nat.le_of_ble_eq_true rfl⟩ ⟨(Nat.le_of_ble_eq_true rfl), (Nat.le_of_ble_eq_true rfl)⟩ q1215 dX1_drop_2 (fun x_ hx_ E_ ce_ q9_ H locs hXB hS hce hvn hfc => ?_) (fun o4 ho_ H locs hW hS => ?_)
  · have hd := wt_rs_r hx_ hd
    exact hx_out (fun z hz => (hno z hz).elim) hlocks hce hvn hfc (Option.some.inj hd) hXB hS (Nat.le_of_ble_eq_true rfl) (Nat.le_of_ble_eq_true rfl)
  · have hd := wt_rs_l ho_ hd
    refine lv_pop (pc := 5) hx hb dX1_drop_5 rfl ?_
    refine lv_aload_n (pc := 6) hx hb dX1_drop_6 rfl (lv_at hl 0 rfl) ?_
    obtain ⟨ad5, h6, hd⟩ := wt_bd_o hd
    refine hr_get (pc := 7) hx hb hts hown hK hW (hgA_o h6) hf_0_1 (fun _ h => h) q536 dX1_drop_7 ?_
    obtain ⟨ad7, h8, hd⟩ := wt_bd_o hd
    refine hr_getN (pc := 10) hx hb hts hown hK hT hW (hgA_o h8) hf_2_0 (fun _ h => h) q515 dX1_drop_10 ?_
    refine lv_iload_n (pc := 13) hx hb dX1_drop_13 rfl (lv_at hl 1 rfl) ?_
    obtain ⟨h9, hd⟩ := wt_ck_o hd
    obtain ⟨w10, hc11, hd⟩ := wt_bd_o hd
    refine kJ2_remove (pc := 14) hx hb hml hown hts hC hW hS h9 hc11 hl.1 (Nat.le_of_ble_eq_true rfl) ⟨Nat.le_of_ble_eq_true rfl, Nat.le_of_ble_eq_true rfl⟩ ⟨Nat.le_of_ble_eq_true rfl, Nat.le_of_ble_eq_true rfl⟩ q1241 dX1_drop_14 (fun H locs hW hS => ?_)
    refine lv_pop (pc := 17) hx hb dX1_drop_17 rfl ?_
    refine lv_aload_n (pc := 18) hx hb dX1_drop_18 rfl (lv_at hl 0 rfl) ?_
    obtain ⟨ad12, h13, hd⟩ := wt_bd_o hd
    refine hr_get (pc := 19) hx hb hts hown hK hW (hgA_o h13) hf_0_1 (fun _ h => h) q536 dX1_drop_19 ?_
    obtain ⟨ad14, h15, hd⟩ := wt_bd_o hd
    refine hr_getN (pc := 22) hx hb hts hown hK hT hW (hgA_o h15) hf_2_0 (fun _ h => h) q515 dX1_drop_22 ?_
    obtain ⟨h16, hd⟩ := wt_ck_o hd
    obtain ⟨w17, hc18, hd⟩ := wt_bd_o hd
    refine kJ2_size (pc := 25) hx hb hml hown hts hC hW hS h16 hc18 hl.1 (Nat.le_of_ble_eq_true rfl) ⟨Nat.le_of_ble_eq_true rfl, Nat.le_of_ble_eq_true rfl⟩ ⟨Nat.le_of_ble_eq_true rfl, Nat.le_of_ble_eq_true rfl⟩ q666 dX1_drop_25 (fun H locs hW hS => ?_)
    refine vx_ret ?_
    exact hx_iret hx hb hr rfl hlocks (Option.some.inj hd) hW hS dX1_drop_28 (Nat.le_of_ble_eq_true rfl) (Nat.le_of_ble_eq_true rfl)
theorem kX1_drop {p : Program} {l : Launch} {e : Env} {R : Room} {s : State} {m : MethodId} {args : Array Value} {below : List Frame} {meth : Method} {c : Code} {H : Heap} {locs : List Loc} {cells slots : Nat} {Q : State → Prop} {cc : ByteArray} {pc : Nat} {ls : Array Slot} {rest : List Value} {nL : Nat} {own : String} {index : Nat} {G : HG} {A : Nat → Prop} {τ : HP} {o_ : Nat} {a0 : Int32} {out_ : (Int32 × HP) ⊕ (Nat × Nat × HP)} (hfl : l.stackTraces = false) (hx : p.tables.exec = Jvm.exec) (hb : c.code = cc) (hml : c.maxLocals = nL) (hown : s.vm.findClass own = some m.cls) (hts : ∀ w ∈ lw_all, w.before args s = true) (hC : Hcx G A s) (hW : Hw G A τ H) (hS : va_S A s.heap H locs) (hrc : hcl τ o_ = some 0) (hd : eX1_drop τ o_ a0 = some out_) (hsz : ls.size = nL) (hrm : (rest.map fun v => v.category).sum ≤ 8) (hR : 8 ≤ R.frames ∧ 152 ≤ R.locals) (hcs : (cells + 1) ≤ R.cells ∧ (slots + 6) ≤ R.slots) (hlk : Cond.methodLink own index yX1_drop ∈ lw_all) (hdg : decode cc pc = .ok (.invokevirtual index, 3)) (kx : ∀ x_ : Nat × Nat × HP, Sum.inr x_ = out_ → ∀ (E : String) (ce : Cell) (q9 : Addr) (H1 : Heap) (locs1 : List Loc), hXb G A E q9 x_ H1 → va_S A s.heap H1 locs1 → H1[q9]? = some ce → ce.vm = .none → s.vm.findClass E = some ce.cls → vx_W p l e R s m args below meth c H1 locs1 (cells + 1) (slots + 6) Q (F0 m pc ls rest) q9) (kk : ∀ o_1 : Int32 × HP, Sum.inl o_1 = out_ → ∀ (H1 : Heap) (locs1 : List Loc), Hw G A o_1.2 H1 → va_S A s.heap H1 locs1 → W p l e R s m args below meth c H1 locs1 (cells + 1) (slots + 6) Q (F0 m (pc + 3) ls (.int o_1.1 :: rest))) : W p l e R s m args below meth c H locs cells slots Q (F0 m pc ls (.int a0 :: .ref o_ :: rest)) := by
  refine vx_calli (vx_runV (As := [.int a0]) (rest := rest) ⟨hx, hb, hml, hown, hts⟩ (wX1_drop l hfl hd) (cwV 1 hts (lw_V hlk q1238 q1239 q66 q1240) rfl rfl rfl (by decide +kernel) hR) (hr_preV hC hW hS hrc rfl rfl) rfl rfl hsz rfl (lv_room hrm) hdg hcs) hS (fun _ _ h => h) (fun _ h => h) (fun _ _ h => h) (fun E ce q9 u t H1 locs1 ht hvm hp hB hz hk hS1 hce hvn hfc => ?_) (fun r u t H1 locs1 ht hvm hp hB hz hk hS1 => ?_)
  · rw [ht] at hB
    exact kx u hp E ce q9 H1 locs1 hB hS1 hce hvn hfc
  · have hW1 : Hw G A u t.heap := hB
    rw [ht] at hW1
    exact kk (r, u) hp H1 locs1 hW1 hS1
noncomputable def eX1_scale (τ : HP) (o_ : Nat) (a0 : Int32) : Option ((Int32 × HP) ⊕ (Nat × Nat × HP)) :=
  wt_ck (hcl τ o_ = some 0) <| wt_bd (eX1_run τ o_ a0) fun w2 => wt_rs w2 (fun o4 => wt_ck (hcl o4.2 o4.1 = some 8) <| wt_bd (eX11_scale o4.2 o4.1 (-1 : Int32)) fun w6 => some (.inl (w6.1, w6.2))) (fun x_ => some (.inr x_))
set_option maxHeartbeats 4000000 in
theorem wX1_scale (l : Launch) (hfl : l.stackTraces = false) {G : HG} {A : Nat → Prop} {τ : HP} {o_ : Nat} {a0 : Int32} {out_ : (Int32 × HP) ⊕ (Nat × Nat × HP)} (hd : eX1_scale τ o_ a0 = some out_) : vx_Met l yX1_scale (ws_ yX1_scale cX1_scale 2 (some .int)) ({ frames := 8, cells := 31, slots := 1007, locals := 176 }) (hPc G A τ [.ref o_, .int a0]) (hXi G A (fun r u => Sum.inl (r, u) = out_)) (hXX G A out_) 31 1007 A := by
  refine vx_ofW (cc := cX1_scale) (maxL := 2) (ret := (some .int)) (by decide) rfl ?_
  intro p_ e_ s_ m_ args_ below_ meth_ c_ s₁_ B hml hno hv
  obtain ⟨rfl, hW, hC⟩ := hv
  have hx := B.exec
  have hb := B.bytes
  have hr := B.returns
  have hts := atoms_spec (ws := (ws_ yX1_scale cX1_scale 2 (some .int))) B.pre
  have hts : ∀ w ∈ lw_all, w.before _ s_ = true := fun w h => hts w (List.mem_cons_of_mem _ h)
  have hown : s_.vm.findClass RX1 = some m_.cls := findClass_of_methodNamed B.named
  have hlocks := B.notSynchronized
  have hK := hC.1
  have hT := hC.2.1
  have hL := hC.2.2.1
  have hZ := hC.2.2.2.2.1
  have hA := hC.2.2.2.2.2
  have hS : va_S A s_.heap s_.heap [] := va_S.rf
  have hl := lv_entry ([.ref o_, .int a0]) (n := 2) (Nat.le_of_ble_eq_true rfl)
  rw [lg_entry_eq]
  generalize (lg_sl ([.ref o_, .int a0]) ++ List.replicate (2 - (lg_sl ([.ref o_, .int a0])).length) Slot.unset).toArray = ls at hl ⊢
  have hl : lv_has ls 2 [(0, .ref o_), (1, .int a0)] := hl
  unfold eX1_scale at hd
  refine lv_aload_n (pc := 0) hx hb dX1_scale_0 rfl (lv_at hl 0 rfl) ?_
  refine lv_iload_n (pc := 1) hx hb dX1_scale_1 rfl (lv_at hl 1 rfl) ?_
  obtain ⟨h1, hd⟩ := wt_ck_o hd
  obtain ⟨w2, hc3, hd⟩ := wt_bd_o hd
  refine kX1_run (pc := 2) hfl hx hb hml hown hts hC hW hS h1 hc3 hl.1 (Nat.le_of_ble_eq_true rfl) ⟨Nat.le_of_ble_eq_true rfl, Nat.le_of_ble_eq_true rfl⟩ ⟨(Nat.le_of_ble_eq_true rfl), (Nat.le_of_ble_eq_true rfl)⟩ q1003 dX1_scale_2 (fun x_ hx_ E_ ce_ q9_ H locs hXB hS hce hvn hfc => ?_) (fun o4 ho_ H locs hW hS => ?_)
  · have hd := wt_rs_r hx_ hd
    exact hx_out (fun z hz => (hno z hz).elim) hlocks hce hvn hfc (Option.some.inj hd) hXB hS (Nat.le_of_ble_eq_true rfl) (Nat.le_of_ble_eq_true rfl)
  · have hd := wt_rs_l ho_ hd
    refine lv_iconst (pc := 5) (v := -1) hx hb dX1_scale_5 (by decide) ?_
    obtain ⟨h5, hd⟩ := wt_ck_o hd
    obtain ⟨w6, hc7, hd⟩ := wt_bd_o hd
    refine kX11_scale (pc := 6) hx hb hml hown hts hC hW hS h5 hc7 hl.1 (Nat.le_of_ble_eq_true rfl) ⟨Nat.le_of_ble_eq_true rfl, Nat.le_of_ble_eq_true rfl⟩ ⟨(Nat.le_of_ble_eq_true rfl), (Nat.le_of_ble_eq_true rfl)⟩ q1257 dX1_scale_6 (fun H locs hW hS => ?_)
    refine vx_ret ?_
    exact hx_iret hx hb hr rfl hlocks (Option.some.inj hd) hW hS dX1_scale_9 (Nat.le_of_ble_eq_true rfl) (Nat.le_of_ble_eq_true rfl)
theorem kX1_scale {p : Program} {l : Launch} {e : Env} {R : Room} {s : State} {m : MethodId} {args : Array Value} {below : List Frame} {meth : Method} {c : Code} {H : Heap} {locs : List Loc} {cells slots : Nat} {Q : State → Prop} {cc : ByteArray} {pc : Nat} {ls : Array Slot} {rest : List Value} {nL : Nat} {own : String} {index : Nat} {G : HG} {A : Nat → Prop} {τ : HP} {o_ : Nat} {a0 : Int32} {out_ : (Int32 × HP) ⊕ (Nat × Nat × HP)} (hfl : l.stackTraces = false) (hx : p.tables.exec = Jvm.exec) (hb : c.code = cc) (hml : c.maxLocals = nL) (hown : s.vm.findClass own = some m.cls) (hts : ∀ w ∈ lw_all, w.before args s = true) (hC : Hcx G A s) (hW : Hw G A τ H) (hS : va_S A s.heap H locs) (hrc : hcl τ o_ = some 0) (hd : eX1_scale τ o_ a0 = some out_) (hsz : ls.size = nL) (hrm : (rest.map fun v => v.category).sum ≤ 8) (hR : 9 ≤ R.frames ∧ 197 ≤ R.locals) (hcs : (cells + 31) ≤ R.cells ∧ (slots + 1007) ≤ R.slots) (hlk : Cond.methodLink own index yX1_scale ∈ lw_all) (hdg : decode cc pc = .ok (.invokevirtual index, 3)) (kx : ∀ x_ : Nat × Nat × HP, Sum.inr x_ = out_ → ∀ (E : String) (ce : Cell) (q9 : Addr) (H1 : Heap) (locs1 : List Loc), hXb G A E q9 x_ H1 → va_S A s.heap H1 locs1 → H1[q9]? = some ce → ce.vm = .none → s.vm.findClass E = some ce.cls → vx_W p l e R s m args below meth c H1 locs1 (cells + 31) (slots + 1007) Q (F0 m pc ls rest) q9) (kk : ∀ o_1 : Int32 × HP, Sum.inl o_1 = out_ → ∀ (H1 : Heap) (locs1 : List Loc), Hw G A o_1.2 H1 → va_S A s.heap H1 locs1 → W p l e R s m args below meth c H1 locs1 (cells + 31) (slots + 1007) Q (F0 m (pc + 3) ls (.int o_1.1 :: rest))) : W p l e R s m args below meth c H locs cells slots Q (F0 m pc ls (.int a0 :: .ref o_ :: rest)) := by
  refine vx_calli (vx_runV (As := [.int a0]) (rest := rest) ⟨hx, hb, hml, hown, hts⟩ (wX1_scale l hfl hd) (cwV 1 hts (lw_V hlk q1254 q1255 q66 q1256) rfl rfl rfl (by decide +kernel) hR) (hr_preV hC hW hS hrc rfl rfl) rfl rfl hsz rfl (lv_room hrm) hdg hcs) hS (fun _ _ h => h) (fun _ h => h) (fun _ _ h => h) (fun E ce q9 u t H1 locs1 ht hvm hp hB hz hk hS1 hce hvn hfc => ?_) (fun r u t H1 locs1 ht hvm hp hB hz hk hS1 => ?_)
  · rw [ht] at hB
    exact kx u hp E ce q9 H1 locs1 hB hS1 hce hvn hfc
  · have hW1 : Hw G A u t.heap := hB
    rw [ht] at hW1
    exact kk (r, u) hp H1 locs1 hW1 hS1
noncomputable def eX1_digits (τ : HP) (o_ : Nat) (a0 : Int32) : Option ((Int32 × HP) ⊕ (Nat × Nat × HP)) :=
  wt_ck (hcl τ o_ = some 0) <| wt_bd (eX1_run τ o_ a0) fun w2 => wt_rs w2 (fun o4 => wt_ck (hcl o4.2 o4.1 = some 8) <| wt_bd (eX11_number o4.2 o4.1 (-1 : Int32)) fun w6 => wt_ck (hcl w6.2 w6.1 = some 11) <| wt_bd (eX14_digits w6.2 w6.1) fun w9 => some (.inl (w9, w6.2))) (fun x_ => some (.inr x_))
set_option maxHeartbeats 4000000 in
theorem wX1_digits (l : Launch) (hfl : l.stackTraces = false) {G : HG} {A : Nat → Prop} {τ : HP} {o_ : Nat} {a0 : Int32} {out_ : (Int32 × HP) ⊕ (Nat × Nat × HP)} (hd : eX1_digits τ o_ a0 = some out_) : vx_Met l yX1_digits (ws_ yX1_digits cX1_digits 2 (some .int)) ({ frames := 9, cells := 31, slots := 1307, locals := 200 }) (hPc G A τ [.ref o_, .int a0]) (hXi G A (fun r u => Sum.inl (r, u) = out_)) (hXX G A out_) 31 1307 A := by
  refine vx_ofW (cc := cX1_digits) (maxL := 2) (ret := (some .int)) (by decide) rfl ?_
  intro p_ e_ s_ m_ args_ below_ meth_ c_ s₁_ B hml hno hv
  obtain ⟨rfl, hW, hC⟩ := hv
  have hx := B.exec
  have hb := B.bytes
  have hr := B.returns
  have hts := atoms_spec (ws := (ws_ yX1_digits cX1_digits 2 (some .int))) B.pre
  have hts : ∀ w ∈ lw_all, w.before _ s_ = true := fun w h => hts w (List.mem_cons_of_mem _ h)
  have hown : s_.vm.findClass RX1 = some m_.cls := findClass_of_methodNamed B.named
  have hlocks := B.notSynchronized
  have hK := hC.1
  have hT := hC.2.1
  have hL := hC.2.2.1
  have hZ := hC.2.2.2.2.1
  have hA := hC.2.2.2.2.2
  have hS : va_S A s_.heap s_.heap [] := va_S.rf
  have hl := lv_entry ([.ref o_, .int a0]) (n := 2) (Nat.le_of_ble_eq_true rfl)
  rw [lg_entry_eq]
  generalize (lg_sl ([.ref o_, .int a0]) ++ List.replicate (2 - (lg_sl ([.ref o_, .int a0])).length) Slot.unset).toArray = ls at hl ⊢
  have hl : lv_has ls 2 [(0, .ref o_), (1, .int a0)] := hl
  unfold eX1_digits at hd
  refine lv_aload_n (pc := 0) hx hb dX1_digits_0 rfl (lv_at hl 0 rfl) ?_
  refine lv_iload_n (pc := 1) hx hb dX1_digits_1 rfl (lv_at hl 1 rfl) ?_
  obtain ⟨h1, hd⟩ := wt_ck_o hd
  obtain ⟨w2, hc3, hd⟩ := wt_bd_o hd
  refine kX1_run (pc := 2) hfl hx hb hml hown hts hC hW hS h1 hc3 hl.1 (Nat.le_of_ble_eq_true rfl) ⟨Nat.le_of_ble_eq_true rfl, Nat.le_of_ble_eq_true rfl⟩ ⟨(Nat.le_of_ble_eq_true rfl), (Nat.le_of_ble_eq_true rfl)⟩ q1003 dX1_digits_2 (fun x_ hx_ E_ ce_ q9_ H locs hXB hS hce hvn hfc => ?_) (fun o4 ho_ H locs hW hS => ?_)
  · have hd := wt_rs_r hx_ hd
    exact hx_out (fun z hz => (hno z hz).elim) hlocks hce hvn hfc (Option.some.inj hd) hXB hS (Nat.le_of_ble_eq_true rfl) (Nat.le_of_ble_eq_true rfl)
  · have hd := wt_rs_l ho_ hd
    refine lv_iconst (pc := 5) (v := -1) hx hb dX1_digits_5 (by decide) ?_
    obtain ⟨h5, hd⟩ := wt_ck_o hd
    obtain ⟨w6, hc7, hd⟩ := wt_bd_o hd
    refine kX11_number (pc := 6) hx hb hml hown hts hC hW hS h5 hc7 hl.1 (Nat.le_of_ble_eq_true rfl) ⟨Nat.le_of_ble_eq_true rfl, Nat.le_of_ble_eq_true rfl⟩ ⟨(Nat.le_of_ble_eq_true rfl), (Nat.le_of_ble_eq_true rfl)⟩ q1275 dX1_digits_6 (fun H locs hW hS => ?_)
    obtain ⟨h8, hd⟩ := wt_ck_o hd
    obtain ⟨w9, hc10, hd⟩ := wt_bd_o hd
    refine kX14_digits (pc := 9) hx hb hml hown hts hC hW hS h8 hc10 hl.1 (Nat.le_of_ble_eq_true rfl) ⟨Nat.le_of_ble_eq_true rfl, Nat.le_of_ble_eq_true rfl⟩ ⟨Nat.le_of_ble_eq_true rfl, Nat.le_of_ble_eq_true rfl⟩ q1309 dX1_digits_9 (fun H locs hW hS => ?_)
    refine vx_ret ?_
    exact hx_iret hx hb hr rfl hlocks (Option.some.inj hd) hW hS dX1_digits_12 (Nat.le_of_ble_eq_true rfl) (Nat.le_of_ble_eq_true rfl)
theorem kX1_digits {p : Program} {l : Launch} {e : Env} {R : Room} {s : State} {m : MethodId} {args : Array Value} {below : List Frame} {meth : Method} {c : Code} {H : Heap} {locs : List Loc} {cells slots : Nat} {Q : State → Prop} {cc : ByteArray} {pc : Nat} {ls : Array Slot} {rest : List Value} {nL : Nat} {own : String} {index : Nat} {G : HG} {A : Nat → Prop} {τ : HP} {o_ : Nat} {a0 : Int32} {out_ : (Int32 × HP) ⊕ (Nat × Nat × HP)} (hfl : l.stackTraces = false) (hx : p.tables.exec = Jvm.exec) (hb : c.code = cc) (hml : c.maxLocals = nL) (hown : s.vm.findClass own = some m.cls) (hts : ∀ w ∈ lw_all, w.before args s = true) (hC : Hcx G A s) (hW : Hw G A τ H) (hS : va_S A s.heap H locs) (hrc : hcl τ o_ = some 0) (hd : eX1_digits τ o_ a0 = some out_) (hsz : ls.size = nL) (hrm : (rest.map fun v => v.category).sum ≤ 8) (hR : 10 ≤ R.frames ∧ 221 ≤ R.locals) (hcs : (cells + 31) ≤ R.cells ∧ (slots + 1307) ≤ R.slots) (hlk : Cond.methodLink own index yX1_digits ∈ lw_all) (hdg : decode cc pc = .ok (.invokevirtual index, 3)) (kx : ∀ x_ : Nat × Nat × HP, Sum.inr x_ = out_ → ∀ (E : String) (ce : Cell) (q9 : Addr) (H1 : Heap) (locs1 : List Loc), hXb G A E q9 x_ H1 → va_S A s.heap H1 locs1 → H1[q9]? = some ce → ce.vm = .none → s.vm.findClass E = some ce.cls → vx_W p l e R s m args below meth c H1 locs1 (cells + 31) (slots + 1307) Q (F0 m pc ls rest) q9) (kk : ∀ o_1 : Int32 × HP, Sum.inl o_1 = out_ → ∀ (H1 : Heap) (locs1 : List Loc), Hw G A o_1.2 H1 → va_S A s.heap H1 locs1 → W p l e R s m args below meth c H1 locs1 (cells + 31) (slots + 1307) Q (F0 m (pc + 3) ls (.int o_1.1 :: rest))) : W p l e R s m args below meth c H locs cells slots Q (F0 m pc ls (.int a0 :: .ref o_ :: rest)) := by
  refine vx_calli (vx_runV (As := [.int a0]) (rest := rest) ⟨hx, hb, hml, hown, hts⟩ (wX1_digits l hfl hd) (cwV 1 hts (lw_V hlk q1272 q1273 q66 q1274) rfl rfl rfl (by decide +kernel) hR) (hr_preV hC hW hS hrc rfl rfl) rfl rfl hsz rfl (lv_room hrm) hdg hcs) hS (fun _ _ h => h) (fun _ h => h) (fun _ _ h => h) (fun E ce q9 u t H1 locs1 ht hvm hp hB hz hk hS1 hce hvn hfc => ?_) (fun r u t H1 locs1 ht hvm hp hB hz hk hS1 => ?_)
  · rw [ht] at hB
    exact kx u hp E ce q9 H1 locs1 hB hS1 hce hvn hfc
  · have hW1 : Hw G A u t.heap := hB
    rw [ht] at hW1
    exact kk (r, u) hp H1 locs1 hW1 hS1
noncomputable def eX1_digit (τ : HP) (o_ : Nat) (a0 : Int32) (a1 : Int32) : Option ((Int32 × HP) ⊕ (Nat × Nat × HP)) :=
  wt_ck (hcl τ o_ = some 0) <| wt_bd (eX1_run τ o_ a0) fun w2 => wt_rs w2 (fun o4 => wt_ck (hcl o4.2 o4.1 = some 8) <| wt_bd (eX11_number o4.2 o4.1 (-1 : Int32)) fun w6 => if a1 < 0 then (some (.inl ((-1 : Int32), w6.2))) else (wt_ck (hcl w6.2 w6.1 = some 11) <| wt_bd (eX14_digits w6.2 w6.1) fun w10 => if a1 < w10 then (wt_ck (hcl w6.2 w6.1 = some 11) <| wt_bd (eX14_digit w6.2 w6.1 a1) fun w14 => some (.inl (w14, w6.2))) else (some (.inl ((-1 : Int32), w6.2))))) (fun x_ => some (.inr x_))
set_option maxHeartbeats 4000000 in
theorem wX1_digit (l : Launch) (hfl : l.stackTraces = false) {G : HG} {A : Nat → Prop} {τ : HP} {o_ : Nat} {a0 : Int32} {a1 : Int32} {out_ : (Int32 × HP) ⊕ (Nat × Nat × HP)} (hd : eX1_digit τ o_ a0 a1 = some out_) : vx_Met l yX1_digit (ws_ yX1_digit cX1_digit 4 (some .int)) ({ frames := 9, cells := 31, slots := 1307, locals := 200 }) (hPc G A τ [.ref o_, .int a0, .int a1]) (hXi G A (fun r u => Sum.inl (r, u) = out_)) (hXX G A out_) 31 1307 A := by
  refine vx_ofW (cc := cX1_digit) (maxL := 4) (ret := (some .int)) (by decide) rfl ?_
  intro p_ e_ s_ m_ args_ below_ meth_ c_ s₁_ B hml hno hv
  obtain ⟨rfl, hW, hC⟩ := hv
  have hx := B.exec
  have hb := B.bytes
  have hr := B.returns
  have hts := atoms_spec (ws := (ws_ yX1_digit cX1_digit 4 (some .int))) B.pre
  have hts : ∀ w ∈ lw_all, w.before _ s_ = true := fun w h => hts w (List.mem_cons_of_mem _ h)
  have hown : s_.vm.findClass RX1 = some m_.cls := findClass_of_methodNamed B.named
  have hlocks := B.notSynchronized
  have hK := hC.1
  have hT := hC.2.1
  have hL := hC.2.2.1
  have hZ := hC.2.2.2.2.1
  have hA := hC.2.2.2.2.2
  have hS : va_S A s_.heap s_.heap [] := va_S.rf
  have hl := lv_entry ([.ref o_, .int a0, .int a1]) (n := 4) (Nat.le_of_ble_eq_true rfl)
  rw [lg_entry_eq]
  generalize (lg_sl ([.ref o_, .int a0, .int a1]) ++ List.replicate (4 - (lg_sl ([.ref o_, .int a0, .int a1])).length) Slot.unset).toArray = ls at hl ⊢
  have hl : lv_has ls 4 [(0, .ref o_), (1, .int a0), (2, .int a1)] := hl
  unfold eX1_digit at hd
  refine lv_aload_n (pc := 0) hx hb dX1_digit_0 rfl (lv_at hl 0 rfl) ?_
  refine lv_iload_n (pc := 1) hx hb dX1_digit_1 rfl (lv_at hl 1 rfl) ?_
  obtain ⟨h1, hd⟩ := wt_ck_o hd
  obtain ⟨w2, hc3, hd⟩ := wt_bd_o hd
  refine kX1_run (pc := 2) hfl hx hb hml hown hts hC hW hS h1 hc3 hl.1 (Nat.le_of_ble_eq_true rfl) ⟨Nat.le_of_ble_eq_true rfl, Nat.le_of_ble_eq_true rfl⟩ ⟨(Nat.le_of_ble_eq_true rfl), (Nat.le_of_ble_eq_true rfl)⟩ q1003 dX1_digit_2 (fun x_ hx_ E_ ce_ q9_ H locs hXB hS hce hvn hfc => ?_) (fun o4 ho_ H locs hW hS => ?_)
  · have hd := wt_rs_r hx_ hd
    exact hx_out (fun z hz => (hno z hz).elim) hlocks hce hvn hfc (Option.some.inj hd) hXB hS (Nat.le_of_ble_eq_true rfl) (Nat.le_of_ble_eq_true rfl)
  · have hd := wt_rs_l ho_ hd
    refine lv_iconst (pc := 5) (v := -1) hx hb dX1_digit_5 (by decide) ?_
    obtain ⟨h5, hd⟩ := wt_ck_o hd
    obtain ⟨w6, hc7, hd⟩ := wt_bd_o hd
    refine kX11_number (pc := 6) hx hb hml hown hts hC hW hS h5 hc7 hl.1 (Nat.le_of_ble_eq_true rfl) ⟨Nat.le_of_ble_eq_true rfl, Nat.le_of_ble_eq_true rfl⟩ ⟨(Nat.le_of_ble_eq_true rfl), (Nat.le_of_ble_eq_true rfl)⟩ q1275 dX1_digit_6 (fun H locs hW hS => ?_)
    refine lv_astore_n (pc := 9) (lv' := [(3, .ref w6.1), (0, .ref o_), (1, .int a0), (2, .int a1)]) hx hb dX1_digit_9 rfl hl (by decide) rfl (fun ls hl => ?_)
    refine lv_iload_n (pc := 10) hx hb dX1_digit_10 rfl (lv_at hl 3 rfl) ?_
    refine lv_if_lt (pc := 11) (tgt := 22) hx hb dX1_digit_11 (by decide) (fun c8 => ?_) (fun c8 => ?_)
    · have hd := wt_it hd c8
      refine lv_iconst (pc := 22) (v := -1) hx hb dX1_digit_22 (by decide) ?_
      refine lv_goto (pc := 23) (tgt := 31) hx hb dX1_digit_23 (by decide) ?_
      refine vx_ret ?_
      exact hx_iret hx hb hr rfl hlocks (Option.some.inj hd) hW hS dX1_digit_31 (Nat.le_of_ble_eq_true rfl) (Nat.le_of_ble_eq_true rfl)
    · have hd := wt_if hd c8
      refine lv_iload_n (pc := 14) hx hb dX1_digit_14 rfl (lv_at hl 3 rfl) ?_
      refine lv_aload_n (pc := 15) hx hb dX1_digit_15 rfl (lv_at hl 0 rfl) ?_
      obtain ⟨h9, hd⟩ := wt_ck_o hd
      obtain ⟨w10, hc11, hd⟩ := wt_bd_o hd
      refine kX14_digits (pc := 16) hx hb hml hown hts hC hW hS h9 hc11 hl.1 (Nat.le_of_ble_eq_true rfl) ⟨Nat.le_of_ble_eq_true rfl, Nat.le_of_ble_eq_true rfl⟩ ⟨Nat.le_of_ble_eq_true rfl, Nat.le_of_ble_eq_true rfl⟩ q1309 dX1_digit_16 (fun H locs hW hS => ?_)
      refine lv_icmp_lt (pc := 19) (tgt := 26) hx hb dX1_digit_19 (by decide) (fun c12 => ?_) (fun c12 => ?_)
      · have hd := wt_it hd c12
        refine lv_aload_n (pc := 26) hx hb dX1_digit_26 rfl (lv_at hl 0 rfl) ?_
        refine lv_iload_n (pc := 27) hx hb dX1_digit_27 rfl (lv_at hl 3 rfl) ?_
        obtain ⟨h13, hd⟩ := wt_ck_o hd
        obtain ⟨w14, hc15, hd⟩ := wt_bd_o hd
        refine kX14_digit (pc := 28) hx hb hml hown hts hC hW hS h13 hc15 hl.1 (Nat.le_of_ble_eq_true rfl) ⟨Nat.le_of_ble_eq_true rfl, Nat.le_of_ble_eq_true rfl⟩ ⟨Nat.le_of_ble_eq_true rfl, Nat.le_of_ble_eq_true rfl⟩ q1320 dX1_digit_28 (fun H locs hW hS => ?_)
        refine vx_ret ?_
        exact hx_iret hx hb hr rfl hlocks (Option.some.inj hd) hW hS dX1_digit_31 (Nat.le_of_ble_eq_true rfl) (Nat.le_of_ble_eq_true rfl)
      · have hd := wt_if hd c12
        refine lv_iconst (pc := 22) (v := -1) hx hb dX1_digit_22 (by decide) ?_
        refine lv_goto (pc := 23) (tgt := 31) hx hb dX1_digit_23 (by decide) ?_
        refine vx_ret ?_
        exact hx_iret hx hb hr rfl hlocks (Option.some.inj hd) hW hS dX1_digit_31 (Nat.le_of_ble_eq_true rfl) (Nat.le_of_ble_eq_true rfl)
theorem kX1_digit {p : Program} {l : Launch} {e : Env} {R : Room} {s : State} {m : MethodId} {args : Array Value} {below : List Frame} {meth : Method} {c : Code} {H : Heap} {locs : List Loc} {cells slots : Nat} {Q : State → Prop} {cc : ByteArray} {pc : Nat} {ls : Array Slot} {rest : List Value} {nL : Nat} {own : String} {index : Nat} {G : HG} {A : Nat → Prop} {τ : HP} {o_ : Nat} {a0 : Int32} {a1 : Int32} {out_ : (Int32 × HP) ⊕ (Nat × Nat × HP)} (hfl : l.stackTraces = false) (hx : p.tables.exec = Jvm.exec) (hb : c.code = cc) (hml : c.maxLocals = nL) (hown : s.vm.findClass own = some m.cls) (hts : ∀ w ∈ lw_all, w.before args s = true) (hC : Hcx G A s) (hW : Hw G A τ H) (hS : va_S A s.heap H locs) (hrc : hcl τ o_ = some 0) (hd : eX1_digit τ o_ a0 a1 = some out_) (hsz : ls.size = nL) (hrm : (rest.map fun v => v.category).sum ≤ 8) (hR : 10 ≤ R.frames ∧ 223 ≤ R.locals) (hcs : (cells + 31) ≤ R.cells ∧ (slots + 1307) ≤ R.slots) (hlk : Cond.methodLink own index yX1_digit ∈ lw_all) (hdg : decode cc pc = .ok (.invokevirtual index, 3)) (kx : ∀ x_ : Nat × Nat × HP, Sum.inr x_ = out_ → ∀ (E : String) (ce : Cell) (q9 : Addr) (H1 : Heap) (locs1 : List Loc), hXb G A E q9 x_ H1 → va_S A s.heap H1 locs1 → H1[q9]? = some ce → ce.vm = .none → s.vm.findClass E = some ce.cls → vx_W p l e R s m args below meth c H1 locs1 (cells + 31) (slots + 1307) Q (F0 m pc ls rest) q9) (kk : ∀ o_1 : Int32 × HP, Sum.inl o_1 = out_ → ∀ (H1 : Heap) (locs1 : List Loc), Hw G A o_1.2 H1 → va_S A s.heap H1 locs1 → W p l e R s m args below meth c H1 locs1 (cells + 31) (slots + 1307) Q (F0 m (pc + 3) ls (.int o_1.1 :: rest))) : W p l e R s m args below meth c H locs cells slots Q (F0 m pc ls (.int a1 :: .int a0 :: .ref o_ :: rest)) := by
  refine vx_calli (vx_runV (As := [.int a0, .int a1]) (rest := rest) ⟨hx, hb, hml, hown, hts⟩ (wX1_digit l hfl hd) (cwV 2 hts (lw_V hlk q1317 q1318 q66 q1319) rfl rfl rfl (by decide +kernel) hR) (hr_preV hC hW hS hrc rfl rfl) rfl rfl hsz rfl (lv_room hrm) hdg hcs) hS (fun _ _ h => h) (fun _ h => h) (fun _ _ h => h) (fun E ce q9 u t H1 locs1 ht hvm hp hB hz hk hS1 hce hvn hfc => ?_) (fun r u t H1 locs1 ht hvm hp hB hz hk hS1 => ?_)
  · rw [ht] at hB
    exact kx u hp E ce q9 H1 locs1 hB hS1 hce hvn hfc
  · have hW1 : Hw G A u t.heap := hB
    rw [ht] at hW1
    exact kk (r, u) hp H1 locs1 hW1 hS1
noncomputable def bX1_scaled_1 (w2 : Nat × HP) (v7 : Int32 × HP) : Option ((Int32 × HP) ⊕ (HP)) :=
  if v7.1 ≤ 0 then (some (.inr v7.2)) else (wt_ck (hcl v7.2 w2.1 = some 11) <| wt_bd (eX14_times v7.2 w2.1 (16 : Int32)) fun w19 => wt_lt (v7.1 + (-1 : Int32)) fun n21 => some (.inl (n21, w19)))
noncomputable def eX1_scaled (τ : HP) (a0 : Nat) (a1 : Nat) (a2 : Int32) : Option (Nat × HP) :=
  wt_ck (hcl τ a0 = some 8) <| wt_bd (eX11_number τ a0 a2) fun w2 => wt_ck (hcl w2.2 a1 = some 8) <| wt_bd (eX11_scale w2.2 a1 a2) fun w5 => wt_bd (wt_whC (bX1_scaled_1 w2) (w5.1, w5.2)) fun w8 => some (w2.1, w8)
set_option maxHeartbeats 4000000 in
theorem wX1_scaled (l : Launch) {G : HG} {A : Nat → Prop} {τ : HP} {a0 : Nat} {a1 : Nat} {a2 : Int32} {out_ : Nat × HP} (hd : eX1_scaled τ a0 a1 a2 = some out_) : Met l yX1_scaled (ws_ yX1_scaled cX1_scaled 5 (some (.object "WoolThreads$Great"))) ({ frames := 9, cells := 60, slots := 2300, locals := 200 }) (hPc G A τ [.ref a0, .ref a1, .int a2]) (hQr G out_.1 out_.2 A) 60 2300 A := by
  refine Met.ofW (cc := cX1_scaled) (maxL := 5) (ret := (some (.object "WoolThreads$Great"))) (by decide) rfl ?_
  intro p_ e_ s_ m_ args_ below_ meth_ c_ s₁_ B hml hv
  obtain ⟨rfl, hW, hC⟩ := hv
  have hx := B.exec
  have hb := B.bytes
  have hr := B.returns
  have hts := atoms_spec (ws := (ws_ yX1_scaled cX1_scaled 5 (some (.object "WoolThreads$Great")))) B.pre
  have hts : ∀ w ∈ lw_all, w.before _ s_ = true := fun w h => hts w (List.mem_cons_of_mem _ h)
  have hown : s_.vm.findClass RX1 = some m_.cls := findClass_of_methodNamed B.named
  have hlocks := B.notSynchronized
  have hK := hC.1
  have hT := hC.2.1
  have hL := hC.2.2.1
  have hZ := hC.2.2.2.2.1
  have hA := hC.2.2.2.2.2
  have hS : va_S A s_.heap s_.heap [] := va_S.rf
  have hl := lv_entry ([.ref a0, .ref a1, .int a2]) (n := 5) (Nat.le_of_ble_eq_true rfl)
  rw [lg_entry_eq]
  generalize (lg_sl ([.ref a0, .ref a1, .int a2]) ++ List.replicate (5 - (lg_sl ([.ref a0, .ref a1, .int a2])).length) Slot.unset).toArray = ls at hl ⊢
  have hl : lv_has ls 5 [(0, .ref a0), (1, .ref a1), (2, .int a2)] := hl
  unfold eX1_scaled at hd
  refine lv_aload_n (pc := 0) hx hb dX1_scaled_0 rfl (lv_at hl 0 rfl) ?_
  refine lv_iload_n (pc := 1) hx hb dX1_scaled_1 rfl (lv_at hl 2 rfl) ?_
  obtain ⟨h1, hd⟩ := wt_ck_o hd
  obtain ⟨w2, hc3, hd⟩ := wt_bd_o hd
  refine kX11_number (pc := 2) hx hb hml hown hts hC hW hS h1 hc3 hl.1 (Nat.le_of_ble_eq_true rfl) ⟨Nat.le_of_ble_eq_true rfl, Nat.le_of_ble_eq_true rfl⟩ ⟨(Nat.le_of_ble_eq_true rfl), (Nat.le_of_ble_eq_true rfl)⟩ q1275 dX1_scaled_2 (fun H locs hW hS => ?_)
  refine lv_astore_n (pc := 5) (lv' := [(3, .ref w2.1), (0, .ref a0), (1, .ref a1), (2, .int a2)]) hx hb dX1_scaled_5 rfl hl (by decide) rfl (fun ls hl => ?_)
  refine lv_aload_n (pc := 6) hx hb dX1_scaled_6 rfl (lv_at hl 2 rfl) ?_
  refine lv_iload_n (pc := 7) hx hb dX1_scaled_7 rfl (lv_at hl 3 rfl) ?_
  obtain ⟨h4, hd⟩ := wt_ck_o hd
  obtain ⟨w5, hc6, hd⟩ := wt_bd_o hd
  refine kX11_scale (pc := 8) hx hb hml hown hts hC hW hS h4 hc6 hl.1 (Nat.le_of_ble_eq_true rfl) ⟨Nat.le_of_ble_eq_true rfl, Nat.le_of_ble_eq_true rfl⟩ ⟨(Nat.le_of_ble_eq_true rfl), (Nat.le_of_ble_eq_true rfl)⟩ q1257 dX1_scaled_8 (fun H locs hW hS => ?_)
  refine lv_istore (pc := 11) (lv' := [(4, .int w5.1), (3, .ref w2.1), (0, .ref a0), (1, .ref a1), (2, .int a2)]) hx hb dX1_scaled_11 hl (by decide) rfl (fun ls hl => ?_)
  obtain ⟨w8, hL9, hq10⟩ := wt_bd_o hd
  have hX11 : ∀ w8_ : HP, w8_ = w8 → ∀ (H : Heap) (locs : List Loc) (ls : Array Slot), Hw G A w8_ H → va_S A s_.heap H locs → lv_has ls 5 [(3, .ref w2.1)] → W p_ l e_ (headSpec (ws_ yX1_scaled cX1_scaled 5 (some (.object "WoolThreads$Great"))) ({ frames := 9, cells := 60, slots := 2300, locals := 200 })).room s_ m_ ([.ref a0, .ref a1, .int a2] : List Value).toArray below_ meth_ c_ H locs 60 2300 (MQ below_ (hQr G out_.1 out_.2 A) ([.ref a0, .ref a1, .int a2] : List Value).toArray s_ 60 2300 A) (F0 m_ 30 ls []) := by
    intro w8_ hw_
    have hd := hq10
    subst hw_
    clear hL9 hq10
    intro H locs ls hW hS hl
    refine lv_aload_n (pc := 30) hx hb dX1_scaled_30 rfl (lv_at hl 0 rfl) ?_
    exact hr_aret hx hb hr (Or.inl ⟨_, rfl⟩) hlocks (wt_p1 hd) (wt_p2 hd) hW hS dX1_scaled_31 (Nat.le_of_ble_eq_true rfl) (Nat.le_of_ble_eq_true rfl)
  have hI16 : ∀ (k15 : Nat) (v7 : Int32 × HP), wt_wh (bX1_scaled_1 w2) k15 v7 = some w8 → ∀ (H : Heap) (locs : List Loc) (ls : Array Slot), Hw G A v7.2 H → va_S A s_.heap H locs → lv_has ls 5 [(3, .ref w2.1), (4, .int v7.1)] → W p_ l e_ (headSpec (ws_ yX1_scaled cX1_scaled 5 (some (.object "WoolThreads$Great"))) ({ frames := 9, cells := 60, slots := 2300, locals := 200 })).room s_ m_ ([.ref a0, .ref a1, .int a2] : List Value).toArray below_ meth_ c_ H locs 60 2300 (MQ below_ (hQr G out_.1 out_.2 A) ([.ref a0, .ref a1, .int a2] : List Value).toArray s_ 60 2300 A) (F0 m_ 13 ls []) := by
    intro k15
    induction k15 with
    | zero => intro v7 hd; exact absurd hd wt_wh_z
    | succ k15 ih13 =>
      intro v7 hd
      intro H locs ls hW hS hl
      obtain ⟨r14, hd, hk12⟩ := wt_wh_o hd
      unfold bX1_scaled_1 at hd
      refine lv_iload (pc := 13) hx hb dX1_scaled_13 (lv_at hl 1 rfl) ?_
      refine lv_if_le (pc := 15) (tgt := 30) hx hb dX1_scaled_15 (by decide) (fun c17 => ?_) (fun c17 => ?_)
      · have hd := wt_it hd c17
        exact hX11 v7.2 (wt_exit hd hk12) _ _ _ hW hS (lv_sub hl [0] rfl)
      · have hd := wt_if hd c17
        refine lv_aload_n (pc := 18) hx hb dX1_scaled_18 rfl (lv_at hl 0 rfl) ?_
        refine lv_bipush (pc := 19) (v := 16) hx hb dX1_scaled_19 (by decide) ?_
        obtain ⟨h18, hd⟩ := wt_ck_o hd
        obtain ⟨w19, hc20, hd⟩ := wt_bd_o hd
        refine kX14_times (pc := 21) hx hb hml hown hts hC hW hS h18 hc20 hl.1 (Nat.le_of_ble_eq_true rfl) ⟨Nat.le_of_ble_eq_true rfl, Nat.le_of_ble_eq_true rfl⟩ ⟨Nat.le_of_ble_eq_true rfl, Nat.le_of_ble_eq_true rfl⟩ q1334 dX1_scaled_21 (fun H locs hW hS => ?_)
        obtain ⟨n21, en21, hd⟩ := wt_lt_o hd
        refine lv_iinc (pc := 24) (k := 1) (v := n21) (lv' := [(4, .int n21), (3, .ref w2.1)]) hx hb dX1_scaled_24 hl rfl en21.symm (by decide) rfl (fun ls hl => ?_)
        refine lv_goto (pc := 27) (tgt := 13) hx hb dX1_scaled_27 (by decide) ?_
        exact ih13 _ (wt_again hd hk12) _ _ _ hW hS (lv_sub hl [1, 0] rfl)
  obtain ⟨k15, hL9⟩ := wt_whC_o hL9
  exact hI16 k15 _ hL9 _ _ _ hW hS (lv_sub hl [1, 0] rfl)
theorem kX1_scaled {p : Program} {l : Launch} {e : Env} {R : Room} {s : State} {m : MethodId} {args : Array Value} {below : List Frame} {meth : Method} {c : Code} {H : Heap} {locs : List Loc} {cells slots : Nat} {Q : State → Prop} {cc : ByteArray} {pc : Nat} {ls : Array Slot} {rest : List Value} {nL : Nat} {own : String} {index : Nat} {G : HG} {A : Nat → Prop} {τ : HP} {a0 : Nat} {a1 : Nat} {a2 : Int32} {out_ : Nat × HP} (hx : p.tables.exec = Jvm.exec) (hb : c.code = cc) (hml : c.maxLocals = nL) (hown : s.vm.findClass own = some m.cls) (hts : ∀ w ∈ lw_all, w.before args s = true) (hC : Hcx G A s) (hW : Hw G A τ H) (hS : va_S A s.heap H locs) (hd : eX1_scaled τ a0 a1 a2 = some out_) (hsz : ls.size = nL) (hrm : (rest.map fun v => v.category).sum ≤ 8) (hR : 10 ≤ R.frames ∧ 224 ≤ R.locals) (hcs : (cells + 60) ≤ R.cells ∧ (slots + 2300) ≤ R.slots) (hlk : Cond.methodLink own index yX1_scaled ∈ lw_all) (hdg : decode cc pc = .ok (.invokestatic index, 3)) (kk : ∀ (H1 : Heap) (locs1 : List Loc), Hw G A out_.2 H1 → va_S A s.heap H1 locs1 → W p l e R s m args below meth c H1 locs1 (cells + 60) (slots + 2300) Q (F0 m (pc + 3) ls (.ref out_.1 :: rest))) : W p l e R s m args below meth c H locs cells slots Q (F0 m pc ls (.int a2 :: .ref a1 :: .ref a0 :: rest)) := by
  refine va_callr (va_runS (As := [.ref a0, .ref a1, .int a2]) (rest := rest) ⟨hx, hb, hml, hown, hts⟩ (wX1_scaled l hd) (va_cwS 3 hts (lw_S hlk q1332 q66 q1333) rfl rfl rfl (by decide +kernel) hR) (hr_preS hC hW hS) rfl rfl hsz rfl (lv_room hrm) hdg hcs) hS (fun _ _ h => h) (fun _ h => h) (fun u ra t H1 locs1 ht hvm hp hB hz hk hS1 => ?_)
  have hp : ra = out_.1 := hB.1
  subst hp
  have hW1 : Hw G A out_.2 t.heap := hB.2
  rw [ht] at hW1
  exact kk H1 locs1 hW1 hS1
noncomputable def eX1_weighed (τ : HP) (o_ : Nat) (a0 : Int32) (a1 : Int32) : Option ((Int32 × HP) ⊕ (Nat × Nat × HP)) :=
  wt_ck (hcl τ o_ = some 0) <| wt_bd (eX1_run τ o_ a0) fun w2 => wt_rs w2 (fun o4 => wt_ck (hcl o4.2 o_ = some 0) <| wt_bd (eX1_run o4.2 o_ a1) fun w6 => wt_rs w6 (fun o8 => wt_bd (eX1_scaled o8.2 o4.1 o8.1 (-1 : Int32)) fun w9 => wt_bd (eX1_scaled w9.2 o8.1 o4.1 (-1 : Int32)) fun w11 => wt_ck (hcl w11.2 w9.1 = some 11) <| wt_bd (eX14_compareTo w11.2 w9.1 w11.1) fun w14 => some (.inl (w14, w11.2))) (fun x_ => some (.inr x_))) (fun x_ => some (.inr x_))
set_option maxHeartbeats 4000000 in
theorem wX1_weighed (l : Launch) (hfl : l.stackTraces = false) {G : HG} {A : Nat → Prop} {τ : HP} {o_ : Nat} {a0 : Int32} {a1 : Int32} {out_ : (Int32 × HP) ⊕ (Nat × Nat × HP)} (hd : eX1_weighed τ o_ a0 a1 = some out_) : vx_Met l yX1_weighed (ws_ yX1_weighed cX1_weighed 5 (some .int)) ({ frames := 10, cells := 122, slots := 4614, locals := 224 }) (hPc G A τ [.ref o_, .int a0, .int a1]) (hXi G A (fun r u => Sum.inl (r, u) = out_)) (hXX G A out_) 122 4614 A := by
  refine vx_ofW (cc := cX1_weighed) (maxL := 5) (ret := (some .int)) (by decide) rfl ?_
  intro p_ e_ s_ m_ args_ below_ meth_ c_ s₁_ B hml hno hv
  obtain ⟨rfl, hW, hC⟩ := hv
  have hx := B.exec
  have hb := B.bytes
  have hr := B.returns
  have hts := atoms_spec (ws := (ws_ yX1_weighed cX1_weighed 5 (some .int))) B.pre
  have hts : ∀ w ∈ lw_all, w.before _ s_ = true := fun w h => hts w (List.mem_cons_of_mem _ h)
  have hown : s_.vm.findClass RX1 = some m_.cls := findClass_of_methodNamed B.named
  have hlocks := B.notSynchronized
  have hK := hC.1
  have hT := hC.2.1
  have hL := hC.2.2.1
  have hZ := hC.2.2.2.2.1
  have hA := hC.2.2.2.2.2
  have hS : va_S A s_.heap s_.heap [] := va_S.rf
  have hl := lv_entry ([.ref o_, .int a0, .int a1]) (n := 5) (Nat.le_of_ble_eq_true rfl)
  rw [lg_entry_eq]
  generalize (lg_sl ([.ref o_, .int a0, .int a1]) ++ List.replicate (5 - (lg_sl ([.ref o_, .int a0, .int a1])).length) Slot.unset).toArray = ls at hl ⊢
  have hl : lv_has ls 5 [(0, .ref o_), (1, .int a0), (2, .int a1)] := hl
  unfold eX1_weighed at hd
  refine lv_aload_n (pc := 0) hx hb dX1_weighed_0 rfl (lv_at hl 0 rfl) ?_
  refine lv_iload_n (pc := 1) hx hb dX1_weighed_1 rfl (lv_at hl 1 rfl) ?_
  obtain ⟨h1, hd⟩ := wt_ck_o hd
  obtain ⟨w2, hc3, hd⟩ := wt_bd_o hd
  refine kX1_run (pc := 2) hfl hx hb hml hown hts hC hW hS h1 hc3 hl.1 (Nat.le_of_ble_eq_true rfl) ⟨Nat.le_of_ble_eq_true rfl, Nat.le_of_ble_eq_true rfl⟩ ⟨(Nat.le_of_ble_eq_true rfl), (Nat.le_of_ble_eq_true rfl)⟩ q1003 dX1_weighed_2 (fun x_ hx_ E_ ce_ q9_ H locs hXB hS hce hvn hfc => ?_) (fun o4 ho_ H locs hW hS => ?_)
  · have hd := wt_rs_r hx_ hd
    exact hx_out (fun z hz => (hno z hz).elim) hlocks hce hvn hfc (Option.some.inj hd) hXB hS (Nat.le_of_ble_eq_true rfl) (Nat.le_of_ble_eq_true rfl)
  · have hd := wt_rs_l ho_ hd
    refine lv_astore_n (pc := 5) (lv' := [(3, .ref o4.1), (0, .ref o_), (1, .int a0), (2, .int a1)]) hx hb dX1_weighed_5 rfl hl (by decide) rfl (fun ls hl => ?_)
    refine lv_aload_n (pc := 6) hx hb dX1_weighed_6 rfl (lv_at hl 1 rfl) ?_
    refine lv_iload_n (pc := 7) hx hb dX1_weighed_7 rfl (lv_at hl 3 rfl) ?_
    obtain ⟨h5, hd⟩ := wt_ck_o hd
    obtain ⟨w6, hc7, hd⟩ := wt_bd_o hd
    refine kX1_run (pc := 8) hfl hx hb hml hown hts hC hW hS h5 hc7 hl.1 (Nat.le_of_ble_eq_true rfl) ⟨Nat.le_of_ble_eq_true rfl, Nat.le_of_ble_eq_true rfl⟩ ⟨(Nat.le_of_ble_eq_true rfl), (Nat.le_of_ble_eq_true rfl)⟩ q1003 dX1_weighed_8 (fun x_ hx_ E_ ce_ q9_ H locs hXB hS hce hvn hfc => ?_) (fun o8 ho_ H locs hW hS => ?_)
    · have hd := wt_rs_r hx_ hd
      exact hx_out (fun z hz => (hno z hz).elim) hlocks hce hvn hfc (Option.some.inj hd) hXB hS (Nat.le_of_ble_eq_true rfl) (Nat.le_of_ble_eq_true rfl)
    · have hd := wt_rs_l ho_ hd
      refine lv_astore (pc := 11) (lv' := [(4, .ref o8.1), (3, .ref o4.1), (0, .ref o_), (1, .int a0), (2, .int a1)]) hx hb dX1_weighed_11 hl (by decide) rfl (fun ls hl => ?_)
      refine lv_aload_n (pc := 13) hx hb dX1_weighed_13 rfl (lv_at hl 1 rfl) ?_
      refine lv_aload (pc := 14) hx hb dX1_weighed_14 (lv_at hl 0 rfl) ?_
      refine lv_iconst (pc := 16) (v := -1) hx hb dX1_weighed_16 (by decide) ?_
      obtain ⟨w9, hc10, hd⟩ := wt_bd_o hd
      refine kX1_scaled (pc := 17) hx hb hml hown hts hC hW hS hc10 hl.1 (Nat.le_of_ble_eq_true rfl) ⟨Nat.le_of_ble_eq_true rfl, Nat.le_of_ble_eq_true rfl⟩ ⟨(Nat.le_of_ble_eq_true rfl), (Nat.le_of_ble_eq_true rfl)⟩ q1331 dX1_weighed_17 (fun H locs hW hS => ?_)
      refine lv_aload (pc := 20) hx hb dX1_weighed_20 (lv_at hl 0 rfl) ?_
      refine lv_aload_n (pc := 22) hx hb dX1_weighed_22 rfl (lv_at hl 1 rfl) ?_
      refine lv_iconst (pc := 23) (v := -1) hx hb dX1_weighed_23 (by decide) ?_
      obtain ⟨w11, hc12, hd⟩ := wt_bd_o hd
      refine kX1_scaled (pc := 24) hx hb hml hown hts hC hW hS hc12 hl.1 (Nat.le_of_ble_eq_true rfl) ⟨Nat.le_of_ble_eq_true rfl, Nat.le_of_ble_eq_true rfl⟩ ⟨(Nat.le_of_ble_eq_true rfl), (Nat.le_of_ble_eq_true rfl)⟩ q1331 dX1_weighed_24 (fun H locs hW hS => ?_)
      obtain ⟨h13, hd⟩ := wt_ck_o hd
      obtain ⟨w14, hc15, hd⟩ := wt_bd_o hd
      refine kX14_compareTo (pc := 27) hx hb hml hown hts hC hW hS h13 hc15 hl.1 (Nat.le_of_ble_eq_true rfl) ⟨Nat.le_of_ble_eq_true rfl, Nat.le_of_ble_eq_true rfl⟩ ⟨Nat.le_of_ble_eq_true rfl, Nat.le_of_ble_eq_true rfl⟩ q1335 dX1_weighed_27 (fun H locs hW hS => ?_)
      refine vx_ret ?_
      exact hx_iret hx hb hr rfl hlocks (Option.some.inj hd) hW hS dX1_weighed_30 (Nat.le_of_ble_eq_true rfl) (Nat.le_of_ble_eq_true rfl)
theorem kX1_weighed {p : Program} {l : Launch} {e : Env} {R : Room} {s : State} {m : MethodId} {args : Array Value} {below : List Frame} {meth : Method} {c : Code} {H : Heap} {locs : List Loc} {cells slots : Nat} {Q : State → Prop} {cc : ByteArray} {pc : Nat} {ls : Array Slot} {rest : List Value} {nL : Nat} {own : String} {index : Nat} {G : HG} {A : Nat → Prop} {τ : HP} {o_ : Nat} {a0 : Int32} {a1 : Int32} {out_ : (Int32 × HP) ⊕ (Nat × Nat × HP)} (hfl : l.stackTraces = false) (hx : p.tables.exec = Jvm.exec) (hb : c.code = cc) (hml : c.maxLocals = nL) (hown : s.vm.findClass own = some m.cls) (hts : ∀ w ∈ lw_all, w.before args s = true) (hC : Hcx G A s) (hW : Hw G A τ H) (hS : va_S A s.heap H locs) (hrc : hcl τ o_ = some 0) (hd : eX1_weighed τ o_ a0 a1 = some out_) (hsz : ls.size = nL) (hrm : (rest.map fun v => v.category).sum ≤ 8) (hR : 11 ≤ R.frames ∧ 248 ≤ R.locals) (hcs : (cells + 122) ≤ R.cells ∧ (slots + 4614) ≤ R.slots) (hlk : Cond.methodLink own index yX1_weighed ∈ lw_all) (hdg : decode cc pc = .ok (.invokevirtual index, 3)) (kx : ∀ x_ : Nat × Nat × HP, Sum.inr x_ = out_ → ∀ (E : String) (ce : Cell) (q9 : Addr) (H1 : Heap) (locs1 : List Loc), hXb G A E q9 x_ H1 → va_S A s.heap H1 locs1 → H1[q9]? = some ce → ce.vm = .none → s.vm.findClass E = some ce.cls → vx_W p l e R s m args below meth c H1 locs1 (cells + 122) (slots + 4614) Q (F0 m pc ls rest) q9) (kk : ∀ o_1 : Int32 × HP, Sum.inl o_1 = out_ → ∀ (H1 : Heap) (locs1 : List Loc), Hw G A o_1.2 H1 → va_S A s.heap H1 locs1 → W p l e R s m args below meth c H1 locs1 (cells + 122) (slots + 4614) Q (F0 m (pc + 3) ls (.int o_1.1 :: rest))) : W p l e R s m args below meth c H locs cells slots Q (F0 m pc ls (.int a1 :: .int a0 :: .ref o_ :: rest)) := by
  refine vx_calli (vx_runV (As := [.int a0, .int a1]) (rest := rest) ⟨hx, hb, hml, hown, hts⟩ (wX1_weighed l hfl hd) (cwV 2 hts (lw_V hlk q1328 q1329 q66 q1330) rfl rfl rfl (by decide +kernel) hR) (hr_preV hC hW hS hrc rfl rfl) rfl rfl hsz rfl (lv_room hrm) hdg hcs) hS (fun _ _ h => h) (fun _ h => h) (fun _ _ h => h) (fun E ce q9 u t H1 locs1 ht hvm hp hB hz hk hS1 hce hvn hfc => ?_) (fun r u t H1 locs1 ht hvm hp hB hz hk hS1 => ?_)
  · rw [ht] at hB
    exact kx u hp E ce q9 H1 locs1 hB hS1 hce hvn hfc
  · have hW1 : Hw G A u t.heap := hB
    rw [ht] at hW1
    exact kk (r, u) hp H1 locs1 hW1 hS1
noncomputable def bX1_worthOf_1 (w1 : Nat × HP) (w3 : Nat × HP) (v12 : Int32 × Int32 × HP) : Option ((Int32 × Int32 × HP) ⊕ (Int32 × HP)) :=
  if v12.2.1 ≤ v12.1 then (some (.inr (v12.1, v12.2.2))) else (wt_lt ((((v12.1 + v12.2.1) + (1 : Int32)) / (2 : Int32))) fun n23 => wt_ck (hcl v12.2.2 w3.2.2 = some 11) <| wt_bd (eX14_become v12.2.2 w3.2.2 w3.1) fun w25 => wt_ck (hcl w25 w3.2.2 = some 11) <| wt_bd (eX14_times w25 w3.2.2 n23) fun w28 => wt_ck (hcl w28 w1.1 = some 11) <| wt_bd (eX14_compareTo w28 w1.1 w3.2.2) fun w31 => if w31 < 0 then (wt_lt ((n23 - (1 : Int32))) fun n34 => some (.inl (v12.1, n34, w28))) else (some (.inl (n23, v12.2.1, w28))))
noncomputable def eX1_worthOf (τ : HP) (a0 : Nat) (a1 : Nat) (a2 : Int32) : Option (Int32 × HP) :=
  wt_bd (eX1_scaled τ a0 a1 a2) fun w1 => wt_bd (eX1_scaled w1.2 a1 a0 a2) fun w3 => wt_ck (hcl w3.2 w3.1 = some 11) <| wt_bd (eX14_isZero w3.2 w3.1) fun w6 => if w6 = 0 then (wt_lt (hnew w3.2 (.inr (11, [.null, .int 0]))) fun τ9 => wt_bd (eX14_init τ9 w3.2.2 (0 : Int32)) fun w10 => wt_bd (wt_whC (bX1_worthOf_1 w1 w3) ((0 : Int32), (1000000 : Int32), w10)) fun w13 => some (w13.1, w13.2)) else (wt_ck (hcl w3.2 w1.1 = some 11) <| wt_bd (eX14_isZero w3.2 w1.1) fun w36 => if w36 = 0 then (some ((1000000 : Int32), w3.2)) else (some ((0 : Int32), w3.2)))
set_option maxHeartbeats 4000000 in
theorem wX1_worthOf (l : Launch) {G : HG} {A : Nat → Prop} {τ : HP} {a0 : Nat} {a1 : Nat} {a2 : Int32} {out_ : Int32 × HP} (hd : eX1_worthOf τ a0 a1 a2 = some out_) : Met l yX1_worthOf (ws_ yX1_worthOf cX1_worthOf 9 (some .int)) ({ frames := 10, cells := 122, slots := 4912, locals := 224 }) (hPc G A τ [.ref a0, .ref a1, .int a2]) (hQi G out_.1 out_.2 A) 122 4912 A := by
  refine Met.ofW (cc := cX1_worthOf) (maxL := 9) (ret := (some .int)) (by decide) rfl ?_
  intro p_ e_ s_ m_ args_ below_ meth_ c_ s₁_ B hml hv
  obtain ⟨rfl, hW, hC⟩ := hv
  have hx := B.exec
  have hb := B.bytes
  have hr := B.returns
  have hts := atoms_spec (ws := (ws_ yX1_worthOf cX1_worthOf 9 (some .int))) B.pre
  have hts : ∀ w ∈ lw_all, w.before _ s_ = true := fun w h => hts w (List.mem_cons_of_mem _ h)
  have hown : s_.vm.findClass RX1 = some m_.cls := findClass_of_methodNamed B.named
  have hlocks := B.notSynchronized
  have hK := hC.1
  have hT := hC.2.1
  have hL := hC.2.2.1
  have hZ := hC.2.2.2.2.1
  have hA := hC.2.2.2.2.2
  have hS : va_S A s_.heap s_.heap [] := va_S.rf
  have hl := lv_entry ([.ref a0, .ref a1, .int a2]) (n := 9) (Nat.le_of_ble_eq_true rfl)
  rw [lg_entry_eq]
  generalize (lg_sl ([.ref a0, .ref a1, .int a2]) ++ List.replicate (9 - (lg_sl ([.ref a0, .ref a1, .int a2])).length) Slot.unset).toArray = ls at hl ⊢
  have hl : lv_has ls 9 [(0, .ref a0), (1, .ref a1), (2, .int a2)] := hl
  unfold eX1_worthOf at hd
  refine lv_aload_n (pc := 0) hx hb dX1_worthOf_0 rfl (lv_at hl 0 rfl) ?_
  refine lv_aload_n (pc := 1) hx hb dX1_worthOf_1 rfl (lv_at hl 1 rfl) ?_
  refine lv_iload_n (pc := 2) hx hb dX1_worthOf_2 rfl (lv_at hl 2 rfl) ?_
  obtain ⟨w1, hc2, hd⟩ := wt_bd_o hd
  refine kX1_scaled (pc := 3) hx hb hml hown hts hC hW hS hc2 hl.1 (Nat.le_of_ble_eq_true rfl) ⟨Nat.le_of_ble_eq_true rfl, Nat.le_of_ble_eq_true rfl⟩ ⟨(Nat.le_of_ble_eq_true rfl), (Nat.le_of_ble_eq_true rfl)⟩ q1331 dX1_worthOf_3 (fun H locs hW hS => ?_)
  refine lv_astore_n (pc := 6) (lv' := [(3, .ref w1.1), (0, .ref a0), (1, .ref a1), (2, .int a2)]) hx hb dX1_worthOf_6 rfl hl (by decide) rfl (fun ls hl => ?_)
  refine lv_aload_n (pc := 7) hx hb dX1_worthOf_7 rfl (lv_at hl 2 rfl) ?_
  refine lv_aload_n (pc := 8) hx hb dX1_worthOf_8 rfl (lv_at hl 1 rfl) ?_
  refine lv_iload_n (pc := 9) hx hb dX1_worthOf_9 rfl (lv_at hl 3 rfl) ?_
  obtain ⟨w3, hc4, hd⟩ := wt_bd_o hd
  refine kX1_scaled (pc := 10) hx hb hml hown hts hC hW hS hc4 hl.1 (Nat.le_of_ble_eq_true rfl) ⟨Nat.le_of_ble_eq_true rfl, Nat.le_of_ble_eq_true rfl⟩ ⟨(Nat.le_of_ble_eq_true rfl), (Nat.le_of_ble_eq_true rfl)⟩ q1331 dX1_worthOf_10 (fun H locs hW hS => ?_)
  refine lv_astore (pc := 13) (lv' := [(4, .ref w3.1), (3, .ref w1.1), (0, .ref a0), (1, .ref a1), (2, .int a2)]) hx hb dX1_worthOf_13 hl (by decide) rfl (fun ls hl => ?_)
  refine lv_aload (pc := 15) hx hb dX1_worthOf_15 (lv_at hl 0 rfl) ?_
  obtain ⟨h5, hd⟩ := wt_ck_o hd
  obtain ⟨w6, hc7, hd⟩ := wt_bd_o hd
  refine kX14_isZero (pc := 17) hx hb hml hown hts hC hW hS h5 hc7 hl.1 (Nat.le_of_ble_eq_true rfl) ⟨Nat.le_of_ble_eq_true rfl, Nat.le_of_ble_eq_true rfl⟩ ⟨Nat.le_of_ble_eq_true rfl, Nat.le_of_ble_eq_true rfl⟩ q1349 dX1_worthOf_17 (fun H locs hW hS => ?_)
  refine lv_if_eq (pc := 20) (tgt := 37) hx hb dX1_worthOf_20 (by decide) (fun c8 => ?_) (fun c8 => ?_)
  · have hd := wt_it hd c8
    obtain ⟨τ9, eτ9, hd⟩ := wt_lt_o hd
    refine hr_new (pc := 37) (ci := 11) (fs := [.null, .int 0]) hx hb hts hown hK hW hS hA rfl tyX14 tyX14_ok (by decide +kernel) q1354 q1280 q102 eτ9 (Nat.le_of_ble_eq_true rfl) (Nat.le_of_ble_eq_true rfl) dX1_worthOf_37 (fun H hW hS => ?_)
    refine lv_dup (pc := 40) hx hb dX1_worthOf_40 rfl ?_
    refine lv_iconst (pc := 41) (v := 0) hx hb dX1_worthOf_41 (by decide) ?_
    obtain ⟨w10, hc11, hd⟩ := wt_bd_o hd
    refine kX14_init (pc := 42) hx hb hml hown hts hC hW hS hc11 hl.1 (Nat.le_of_ble_eq_true rfl) ⟨Nat.le_of_ble_eq_true rfl, Nat.le_of_ble_eq_true rfl⟩ ⟨(Nat.le_of_ble_eq_true rfl), (Nat.le_of_ble_eq_true rfl)⟩ q1355 dX1_worthOf_42 (fun H locs hW hS => ?_)
    refine lv_astore (pc := 45) (lv' := [(5, .ref w3.2.2), (4, .ref w3.1), (3, .ref w1.1), (0, .ref a0), (1, .ref a1), (2, .int a2)]) hx hb dX1_worthOf_45 hl (by decide) rfl (fun ls hl => ?_)
    refine lv_iconst (pc := 47) (v := 0) hx hb dX1_worthOf_47 (by decide) ?_
    refine lv_istore (pc := 48) (lv' := [(6, .int (0 : Int32)), (5, .ref w3.2.2), (4, .ref w3.1), (3, .ref w1.1), (0, .ref a0), (1, .ref a1), (2, .int a2)]) hx hb dX1_worthOf_48 hl (by decide) rfl (fun ls hl => ?_)
    refine lv_ldc (pc := 50) hx hb hown (hts _ q1353) dX1_worthOf_50 ?_
    refine lv_istore (pc := 52) (lv' := [(7, .int (1000000 : Int32)), (6, .int (0 : Int32)), (5, .ref w3.2.2), (4, .ref w3.1), (3, .ref w1.1), (0, .ref a0), (1, .ref a1), (2, .int a2)]) hx hb dX1_worthOf_52 hl (by decide) rfl (fun ls hl => ?_)
    obtain ⟨w13, hL14, hq15⟩ := wt_bd_o hd
    have hX16 : ∀ w13_ : Int32 × HP, w13_ = w13 → ∀ (H : Heap) (locs : List Loc) (ls : Array Slot), Hw G A w13_.2 H → va_S A s_.heap H locs → lv_has ls 9 [(6, .int w13_.1)] → W p_ l e_ (headSpec (ws_ yX1_worthOf cX1_worthOf 9 (some .int)) ({ frames := 10, cells := 122, slots := 4912, locals := 224 })).room s_ m_ ([.ref a0, .ref a1, .int a2] : List Value).toArray below_ meth_ c_ H locs 122 4912 (MQ below_ (hQi G out_.1 out_.2 A) ([.ref a0, .ref a1, .int a2] : List Value).toArray s_ 122 4912 A) (F0 m_ 111 ls []) := by
      intro w13_ hw_
      have hd := hq15
      subst hw_
      clear hL14 hq15
      intro H locs ls hW hS hl
      refine lv_iload (pc := 111) hx hb dX1_worthOf_111 (lv_at hl 0 rfl) ?_
      exact hr_iret hx hb hr rfl hlocks (wt_p1 hd) (wt_p2 hd) hW hS dX1_worthOf_113 (Nat.le_of_ble_eq_true rfl) (Nat.le_of_ble_eq_true rfl)
    have hI21 : ∀ (k20 : Nat) (v12 : Int32 × Int32 × HP), wt_wh (bX1_worthOf_1 w1 w3) k20 v12 = some w13 → ∀ (H : Heap) (locs : List Loc) (ls : Array Slot), Hw G A v12.2.2 H → va_S A s_.heap H locs → lv_has ls 9 [(3, .ref w1.1), (4, .ref w3.1), (5, .ref w3.2.2), (6, .int v12.1), (7, .int v12.2.1)] → W p_ l e_ (headSpec (ws_ yX1_worthOf cX1_worthOf 9 (some .int)) ({ frames := 10, cells := 122, slots := 4912, locals := 224 })).room s_ m_ ([.ref a0, .ref a1, .int a2] : List Value).toArray below_ meth_ c_ H locs 122 4912 (MQ below_ (hQi G out_.1 out_.2 A) ([.ref a0, .ref a1, .int a2] : List Value).toArray s_ 122 4912 A) (F0 m_ 54 ls []) := by
      intro k20
      induction k20 with
      | zero => intro v12 hd; exact absurd hd wt_wh_z
      | succ k20 ih18 =>
        intro v12 hd
        intro H locs ls hW hS hl
        obtain ⟨r19, hd, hk17⟩ := wt_wh_o hd
        unfold bX1_worthOf_1 at hd
        refine lv_iload (pc := 54) hx hb dX1_worthOf_54 (lv_at hl 3 rfl) ?_
        refine lv_iload (pc := 56) hx hb dX1_worthOf_56 (lv_at hl 4 rfl) ?_
        refine lv_icmp_ge (pc := 58) (tgt := 111) hx hb dX1_worthOf_58 (by decide) (fun c22 => ?_) (fun c22 => ?_)
        · have hd := wt_it hd c22
          exact hX16 (v12.1, v12.2.2) (wt_exit hd hk17) _ _ _ hW hS (lv_sub hl [3] rfl)
        · have hd := wt_if hd c22
          refine lv_iload (pc := 61) hx hb dX1_worthOf_61 (lv_at hl 3 rfl) ?_
          refine lv_iload (pc := 63) hx hb dX1_worthOf_63 (lv_at hl 4 rfl) ?_
          refine lv_iadd (pc := 65) hx hb dX1_worthOf_65 ?_
          refine lv_iconst (pc := 66) (v := 1) hx hb dX1_worthOf_66 (by decide) ?_
          refine lv_iadd (pc := 67) hx hb dX1_worthOf_67 ?_
          refine lv_iconst (pc := 68) (v := 2) hx hb dX1_worthOf_68 (by decide) ?_
          refine lv_idiv (pc := 69) hx hb dX1_worthOf_69 (by decide) ?_
          obtain ⟨n23, en23, hd⟩ := wt_lt_o hd
          refine lv_tope en23 ?_
          refine lv_istore (pc := 70) (lv' := [(8, .int n23), (3, .ref w1.1), (4, .ref w3.1), (5, .ref w3.2.2), (6, .int v12.1), (7, .int v12.2.1)]) hx hb dX1_worthOf_70 hl (by decide) rfl (fun ls hl => ?_)
          refine lv_aload (pc := 72) hx hb dX1_worthOf_72 (lv_at hl 3 rfl) ?_
          refine lv_aload (pc := 74) hx hb dX1_worthOf_74 (lv_at hl 2 rfl) ?_
          obtain ⟨h24, hd⟩ := wt_ck_o hd
          obtain ⟨w25, hc26, hd⟩ := wt_bd_o hd
          refine kX14_become (pc := 76) hx hb hml hown hts hC hW hS h24 hc26 hl.1 (Nat.le_of_ble_eq_true rfl) ⟨Nat.le_of_ble_eq_true rfl, Nat.le_of_ble_eq_true rfl⟩ ⟨Nat.le_of_ble_eq_true rfl, Nat.le_of_ble_eq_true rfl⟩ q1356 dX1_worthOf_76 (fun H locs hW hS => ?_)
          refine lv_aload (pc := 79) hx hb dX1_worthOf_79 (lv_at hl 3 rfl) ?_
          refine lv_iload (pc := 81) hx hb dX1_worthOf_81 (lv_at hl 0 rfl) ?_
          obtain ⟨h27, hd⟩ := wt_ck_o hd
          obtain ⟨w28, hc29, hd⟩ := wt_bd_o hd
          refine kX14_times (pc := 83) hx hb hml hown hts hC hW hS h27 hc29 hl.1 (Nat.le_of_ble_eq_true rfl) ⟨Nat.le_of_ble_eq_true rfl, Nat.le_of_ble_eq_true rfl⟩ ⟨Nat.le_of_ble_eq_true rfl, Nat.le_of_ble_eq_true rfl⟩ q1334 dX1_worthOf_83 (fun H locs hW hS => ?_)
          refine lv_aload_n (pc := 86) hx hb dX1_worthOf_86 rfl (lv_at hl 1 rfl) ?_
          refine lv_aload (pc := 87) hx hb dX1_worthOf_87 (lv_at hl 3 rfl) ?_
          obtain ⟨h30, hd⟩ := wt_ck_o hd
          obtain ⟨w31, hc32, hd⟩ := wt_bd_o hd
          refine kX14_compareTo (pc := 89) hx hb hml hown hts hC hW hS h30 hc32 hl.1 (Nat.le_of_ble_eq_true rfl) ⟨Nat.le_of_ble_eq_true rfl, Nat.le_of_ble_eq_true rfl⟩ ⟨Nat.le_of_ble_eq_true rfl, Nat.le_of_ble_eq_true rfl⟩ q1335 dX1_worthOf_89 (fun H locs hW hS => ?_)
          refine lv_if_lt (pc := 92) (tgt := 102) hx hb dX1_worthOf_92 (by decide) (fun c33 => ?_) (fun c33 => ?_)
          · have hd := wt_it hd c33
            refine lv_iload (pc := 102) hx hb dX1_worthOf_102 (lv_at hl 0 rfl) ?_
            refine lv_iconst (pc := 104) (v := 1) hx hb dX1_worthOf_104 (by decide) ?_
            refine lv_isub (pc := 105) hx hb dX1_worthOf_105 ?_
            obtain ⟨n34, en34, hd⟩ := wt_lt_o hd
            refine lv_tope en34 ?_
            refine lv_istore (pc := 106) (lv' := [(7, .int n34), (8, .int n23), (3, .ref w1.1), (4, .ref w3.1), (5, .ref w3.2.2), (6, .int v12.1)]) hx hb dX1_worthOf_106 hl (by decide) rfl (fun ls hl => ?_)
            refine lv_goto (pc := 108) (tgt := 54) hx hb dX1_worthOf_108 (by decide) ?_
            exact ih18 _ (wt_again hd hk17) _ _ _ hW hS (lv_sub hl [2, 3, 4, 5, 0] rfl)
          · have hd := wt_if hd c33
            refine lv_iload (pc := 95) hx hb dX1_worthOf_95 (lv_at hl 0 rfl) ?_
            refine lv_istore (pc := 97) (lv' := [(6, .int n23), (8, .int n23), (3, .ref w1.1), (4, .ref w3.1), (5, .ref w3.2.2), (7, .int v12.2.1)]) hx hb dX1_worthOf_97 hl (by decide) rfl (fun ls hl => ?_)
            refine lv_goto (pc := 99) (tgt := 108) hx hb dX1_worthOf_99 (by decide) ?_
            refine lv_goto (pc := 108) (tgt := 54) hx hb dX1_worthOf_108 (by decide) ?_
            exact ih18 _ (wt_again hd hk17) _ _ _ hW hS (lv_sub hl [2, 3, 4, 0, 5] rfl)
    obtain ⟨k20, hL14⟩ := wt_whC_o hL14
    exact hI21 k20 _ hL14 _ _ _ hW hS (lv_sub hl [4, 3, 2, 1, 0] rfl)
  · have hd := wt_if hd c8
    refine lv_aload_n (pc := 23) hx hb dX1_worthOf_23 rfl (lv_at hl 1 rfl) ?_
    obtain ⟨h35, hd⟩ := wt_ck_o hd
    obtain ⟨w36, hc37, hd⟩ := wt_bd_o hd
    refine kX14_isZero (pc := 24) hx hb hml hown hts hC hW hS h35 hc37 hl.1 (Nat.le_of_ble_eq_true rfl) ⟨Nat.le_of_ble_eq_true rfl, Nat.le_of_ble_eq_true rfl⟩ ⟨Nat.le_of_ble_eq_true rfl, Nat.le_of_ble_eq_true rfl⟩ q1349 dX1_worthOf_24 (fun H locs hW hS => ?_)
    refine lv_if_eq (pc := 27) (tgt := 34) hx hb dX1_worthOf_27 (by decide) (fun c38 => ?_) (fun c38 => ?_)
    · have hd := wt_it hd c38
      refine lv_ldc (pc := 34) hx hb hown (hts _ q1353) dX1_worthOf_34 ?_
      exact hr_iret hx hb hr rfl hlocks (wt_p1 hd) (wt_p2 hd) hW hS dX1_worthOf_36 (Nat.le_of_ble_eq_true rfl) (Nat.le_of_ble_eq_true rfl)
    · have hd := wt_if hd c38
      refine lv_iconst (pc := 30) (v := 0) hx hb dX1_worthOf_30 (by decide) ?_
      refine lv_goto (pc := 31) (tgt := 36) hx hb dX1_worthOf_31 (by decide) ?_
      exact hr_iret hx hb hr rfl hlocks (wt_p1 hd) (wt_p2 hd) hW hS dX1_worthOf_36 (Nat.le_of_ble_eq_true rfl) (Nat.le_of_ble_eq_true rfl)
theorem kX1_worthOf {p : Program} {l : Launch} {e : Env} {R : Room} {s : State} {m : MethodId} {args : Array Value} {below : List Frame} {meth : Method} {c : Code} {H : Heap} {locs : List Loc} {cells slots : Nat} {Q : State → Prop} {cc : ByteArray} {pc : Nat} {ls : Array Slot} {rest : List Value} {nL : Nat} {own : String} {index : Nat} {G : HG} {A : Nat → Prop} {τ : HP} {a0 : Nat} {a1 : Nat} {a2 : Int32} {out_ : Int32 × HP} (hx : p.tables.exec = Jvm.exec) (hb : c.code = cc) (hml : c.maxLocals = nL) (hown : s.vm.findClass own = some m.cls) (hts : ∀ w ∈ lw_all, w.before args s = true) (hC : Hcx G A s) (hW : Hw G A τ H) (hS : va_S A s.heap H locs) (hd : eX1_worthOf τ a0 a1 a2 = some out_) (hsz : ls.size = nL) (hrm : (rest.map fun v => v.category).sum ≤ 8) (hR : 11 ≤ R.frames ∧ 252 ≤ R.locals) (hcs : (cells + 122) ≤ R.cells ∧ (slots + 4912) ≤ R.slots) (hlk : Cond.methodLink own index yX1_worthOf ∈ lw_all) (hdg : decode cc pc = .ok (.invokestatic index, 3)) (kk : ∀ (H1 : Heap) (locs1 : List Loc), Hw G A out_.2 H1 → va_S A s.heap H1 locs1 → W p l e R s m args below meth c H1 locs1 (cells + 122) (slots + 4912) Q (F0 m (pc + 3) ls (.int out_.1 :: rest))) : W p l e R s m args below meth c H locs cells slots Q (F0 m pc ls (.int a2 :: .ref a1 :: .ref a0 :: rest)) := by
  refine va_calli (va_runS (As := [.ref a0, .ref a1, .int a2]) (rest := rest) ⟨hx, hb, hml, hown, hts⟩ (wX1_worthOf l hd) (va_cwS 3 hts (lw_S hlk q1347 q66 q1348) rfl rfl rfl (by decide +kernel) hR) (hr_preS hC hW hS) rfl rfl hsz rfl (lv_room hrm) hdg hcs) hS (fun _ _ h => h) (fun _ h => h) (fun r u t H1 locs1 ht hvm hp hB hz hk hS1 => ?_)
  have hp : r = out_.1 := hp
  subst hp
  have hW1 : Hw G A out_.2 t.heap := hB
  rw [ht] at hW1
  exact kk H1 locs1 hW1 hS1
noncomputable def eX1_worth (τ : HP) (o_ : Nat) (a0 : Int32) (a1 : Int32) : Option ((Int32 × HP) ⊕ (Nat × Nat × HP)) :=
  wt_ck (hcl τ o_ = some 0) <| wt_bd (eX1_run τ o_ a0) fun w2 => wt_rs w2 (fun o4 => wt_ck (hcl o4.2 o_ = some 0) <| wt_bd (eX1_run o4.2 o_ a1) fun w6 => wt_rs w6 (fun o8 => wt_bd (eX1_worthOf o8.2 o4.1 o8.1 (-1 : Int32)) fun w9 => some (.inl (w9.1, w9.2))) (fun x_ => some (.inr x_))) (fun x_ => some (.inr x_))
set_option maxHeartbeats 4000000 in
theorem wX1_worth (l : Launch) (hfl : l.stackTraces = false) {G : HG} {A : Nat → Prop} {τ : HP} {o_ : Nat} {a0 : Int32} {a1 : Int32} {out_ : (Int32 × HP) ⊕ (Nat × Nat × HP)} (hd : eX1_worth τ o_ a0 a1 = some out_) : vx_Met l yX1_worth (ws_ yX1_worth cX1_worth 5 (some .int)) ({ frames := 11, cells := 124, slots := 4926, locals := 252 }) (hPc G A τ [.ref o_, .int a0, .int a1]) (hXi G A (fun r u => Sum.inl (r, u) = out_)) (hXX G A out_) 124 4926 A := by
  refine vx_ofW (cc := cX1_worth) (maxL := 5) (ret := (some .int)) (by decide) rfl ?_
  intro p_ e_ s_ m_ args_ below_ meth_ c_ s₁_ B hml hno hv
  obtain ⟨rfl, hW, hC⟩ := hv
  have hx := B.exec
  have hb := B.bytes
  have hr := B.returns
  have hts := atoms_spec (ws := (ws_ yX1_worth cX1_worth 5 (some .int))) B.pre
  have hts : ∀ w ∈ lw_all, w.before _ s_ = true := fun w h => hts w (List.mem_cons_of_mem _ h)
  have hown : s_.vm.findClass RX1 = some m_.cls := findClass_of_methodNamed B.named
  have hlocks := B.notSynchronized
  have hK := hC.1
  have hT := hC.2.1
  have hL := hC.2.2.1
  have hZ := hC.2.2.2.2.1
  have hA := hC.2.2.2.2.2
  have hS : va_S A s_.heap s_.heap [] := va_S.rf
  have hl := lv_entry ([.ref o_, .int a0, .int a1]) (n := 5) (Nat.le_of_ble_eq_true rfl)
  rw [lg_entry_eq]
  generalize (lg_sl ([.ref o_, .int a0, .int a1]) ++ List.replicate (5 - (lg_sl ([.ref o_, .int a0, .int a1])).length) Slot.unset).toArray = ls at hl ⊢
  have hl : lv_has ls 5 [(0, .ref o_), (1, .int a0), (2, .int a1)] := hl
  unfold eX1_worth at hd
  refine lv_aload_n (pc := 0) hx hb dX1_worth_0 rfl (lv_at hl 0 rfl) ?_
  refine lv_iload_n (pc := 1) hx hb dX1_worth_1 rfl (lv_at hl 1 rfl) ?_
  obtain ⟨h1, hd⟩ := wt_ck_o hd
  obtain ⟨w2, hc3, hd⟩ := wt_bd_o hd
  refine kX1_run (pc := 2) hfl hx hb hml hown hts hC hW hS h1 hc3 hl.1 (Nat.le_of_ble_eq_true rfl) ⟨Nat.le_of_ble_eq_true rfl, Nat.le_of_ble_eq_true rfl⟩ ⟨(Nat.le_of_ble_eq_true rfl), (Nat.le_of_ble_eq_true rfl)⟩ q1003 dX1_worth_2 (fun x_ hx_ E_ ce_ q9_ H locs hXB hS hce hvn hfc => ?_) (fun o4 ho_ H locs hW hS => ?_)
  · have hd := wt_rs_r hx_ hd
    exact hx_out (fun z hz => (hno z hz).elim) hlocks hce hvn hfc (Option.some.inj hd) hXB hS (Nat.le_of_ble_eq_true rfl) (Nat.le_of_ble_eq_true rfl)
  · have hd := wt_rs_l ho_ hd
    refine lv_astore_n (pc := 5) (lv' := [(3, .ref o4.1), (0, .ref o_), (1, .int a0), (2, .int a1)]) hx hb dX1_worth_5 rfl hl (by decide) rfl (fun ls hl => ?_)
    refine lv_aload_n (pc := 6) hx hb dX1_worth_6 rfl (lv_at hl 1 rfl) ?_
    refine lv_iload_n (pc := 7) hx hb dX1_worth_7 rfl (lv_at hl 3 rfl) ?_
    obtain ⟨h5, hd⟩ := wt_ck_o hd
    obtain ⟨w6, hc7, hd⟩ := wt_bd_o hd
    refine kX1_run (pc := 8) hfl hx hb hml hown hts hC hW hS h5 hc7 hl.1 (Nat.le_of_ble_eq_true rfl) ⟨Nat.le_of_ble_eq_true rfl, Nat.le_of_ble_eq_true rfl⟩ ⟨(Nat.le_of_ble_eq_true rfl), (Nat.le_of_ble_eq_true rfl)⟩ q1003 dX1_worth_8 (fun x_ hx_ E_ ce_ q9_ H locs hXB hS hce hvn hfc => ?_) (fun o8 ho_ H locs hW hS => ?_)
    · have hd := wt_rs_r hx_ hd
      exact hx_out (fun z hz => (hno z hz).elim) hlocks hce hvn hfc (Option.some.inj hd) hXB hS (Nat.le_of_ble_eq_true rfl) (Nat.le_of_ble_eq_true rfl)
    · have hd := wt_rs_l ho_ hd
      refine lv_astore (pc := 11) (lv' := [(4, .ref o8.1), (3, .ref o4.1), (0, .ref o_), (1, .int a0), (2, .int a1)]) hx hb dX1_worth_11 hl (by decide) rfl (fun ls hl => ?_)
      refine lv_aload_n (pc := 13) hx hb dX1_worth_13 rfl (lv_at hl 1 rfl) ?_
      refine lv_aload (pc := 14) hx hb dX1_worth_14 (lv_at hl 0 rfl) ?_
      refine lv_iconst (pc := 16) (v := -1) hx hb dX1_worth_16 (by decide) ?_
      obtain ⟨w9, hc10, hd⟩ := wt_bd_o hd
      refine kX1_worthOf (pc := 17) hx hb hml hown hts hC hW hS hc10 hl.1 (Nat.le_of_ble_eq_true rfl) ⟨Nat.le_of_ble_eq_true rfl, Nat.le_of_ble_eq_true rfl⟩ ⟨(Nat.le_of_ble_eq_true rfl), (Nat.le_of_ble_eq_true rfl)⟩ q1346 dX1_worth_17 (fun H locs hW hS => ?_)
      refine vx_ret ?_
      exact hx_iret hx hb hr rfl hlocks (Option.some.inj hd) hW hS dX1_worth_20 (Nat.le_of_ble_eq_true rfl) (Nat.le_of_ble_eq_true rfl)
theorem kX1_worth {p : Program} {l : Launch} {e : Env} {R : Room} {s : State} {m : MethodId} {args : Array Value} {below : List Frame} {meth : Method} {c : Code} {H : Heap} {locs : List Loc} {cells slots : Nat} {Q : State → Prop} {cc : ByteArray} {pc : Nat} {ls : Array Slot} {rest : List Value} {nL : Nat} {own : String} {index : Nat} {G : HG} {A : Nat → Prop} {τ : HP} {o_ : Nat} {a0 : Int32} {a1 : Int32} {out_ : (Int32 × HP) ⊕ (Nat × Nat × HP)} (hfl : l.stackTraces = false) (hx : p.tables.exec = Jvm.exec) (hb : c.code = cc) (hml : c.maxLocals = nL) (hown : s.vm.findClass own = some m.cls) (hts : ∀ w ∈ lw_all, w.before args s = true) (hC : Hcx G A s) (hW : Hw G A τ H) (hS : va_S A s.heap H locs) (hrc : hcl τ o_ = some 0) (hd : eX1_worth τ o_ a0 a1 = some out_) (hsz : ls.size = nL) (hrm : (rest.map fun v => v.category).sum ≤ 8) (hR : 12 ≤ R.frames ∧ 276 ≤ R.locals) (hcs : (cells + 124) ≤ R.cells ∧ (slots + 4926) ≤ R.slots) (hlk : Cond.methodLink own index yX1_worth ∈ lw_all) (hdg : decode cc pc = .ok (.invokevirtual index, 3)) (kx : ∀ x_ : Nat × Nat × HP, Sum.inr x_ = out_ → ∀ (E : String) (ce : Cell) (q9 : Addr) (H1 : Heap) (locs1 : List Loc), hXb G A E q9 x_ H1 → va_S A s.heap H1 locs1 → H1[q9]? = some ce → ce.vm = .none → s.vm.findClass E = some ce.cls → vx_W p l e R s m args below meth c H1 locs1 (cells + 124) (slots + 4926) Q (F0 m pc ls rest) q9) (kk : ∀ o_1 : Int32 × HP, Sum.inl o_1 = out_ → ∀ (H1 : Heap) (locs1 : List Loc), Hw G A o_1.2 H1 → va_S A s.heap H1 locs1 → W p l e R s m args below meth c H1 locs1 (cells + 124) (slots + 4926) Q (F0 m (pc + 3) ls (.int o_1.1 :: rest))) : W p l e R s m args below meth c H locs cells slots Q (F0 m pc ls (.int a1 :: .int a0 :: .ref o_ :: rest)) := by
  refine vx_calli (vx_runV (As := [.int a0, .int a1]) (rest := rest) ⟨hx, hb, hml, hown, hts⟩ (wX1_worth l hfl hd) (cwV 2 hts (lw_V hlk q1343 q1344 q66 q1345) rfl rfl rfl (by decide +kernel) hR) (hr_preV hC hW hS hrc rfl rfl) rfl rfl hsz rfl (lv_room hrm) hdg hcs) hS (fun _ _ h => h) (fun _ h => h) (fun _ _ h => h) (fun E ce q9 u t H1 locs1 ht hvm hp hB hz hk hS1 hce hvn hfc => ?_) (fun r u t H1 locs1 ht hvm hp hB hz hk hS1 => ?_)
  · rw [ht] at hB
    exact kx u hp E ce q9 H1 locs1 hB hS1 hce hvn hfc
  · have hW1 : Hw G A u t.heap := hB
    rw [ht] at hW1
    exact kk (r, u) hp H1 locs1 hW1 hS1
noncomputable def eX1_part (τ : HP) (o_ : Nat) (a0 : Int32) (a1 : Int32) (a2 : Int32) : Option ((Int32 × HP) ⊕ (Nat × Nat × HP)) :=
  wt_ck (hcl τ o_ = some 0) <| wt_bd (eX1_run τ o_ a0) fun w2 => wt_rs w2 (fun o4 => wt_ck (hcl o4.2 o_ = some 0) <| wt_bd (eX1_run o4.2 o_ a1) fun w6 => wt_rs w6 (fun o8 => wt_ck (hcl o8.2 o_ = some 0) <| wt_bd (eX1_findOf o8.2 o_ a2) fun w10 => wt_rs w10 (fun o12 => wt_bd (eX1_worthOf o8.2 o4.1 o8.1 a2) fun w13 => some (.inl (w13.1, w13.2))) (fun x_ => some (.inr x_))) (fun x_ => some (.inr x_))) (fun x_ => some (.inr x_))
set_option maxHeartbeats 4000000 in
theorem wX1_part (l : Launch) (hfl : l.stackTraces = false) {G : HG} {A : Nat → Prop} {τ : HP} {o_ : Nat} {a0 : Int32} {a1 : Int32} {a2 : Int32} {out_ : (Int32 × HP) ⊕ (Nat × Nat × HP)} (hd : eX1_part τ o_ a0 a1 a2 = some out_) : vx_Met l yX1_part (ws_ yX1_part cX1_part 6 (some .int)) ({ frames := 11, cells := 125, slots := 4932, locals := 252 }) (hPc G A τ [.ref o_, .int a0, .int a1, .int a2]) (hXi G A (fun r u => Sum.inl (r, u) = out_)) (hXX G A out_) 125 4932 A := by
  refine vx_ofW (cc := cX1_part) (maxL := 6) (ret := (some .int)) (by decide) rfl ?_
  intro p_ e_ s_ m_ args_ below_ meth_ c_ s₁_ B hml hno hv
  obtain ⟨rfl, hW, hC⟩ := hv
  have hx := B.exec
  have hb := B.bytes
  have hr := B.returns
  have hts := atoms_spec (ws := (ws_ yX1_part cX1_part 6 (some .int))) B.pre
  have hts : ∀ w ∈ lw_all, w.before _ s_ = true := fun w h => hts w (List.mem_cons_of_mem _ h)
  have hown : s_.vm.findClass RX1 = some m_.cls := findClass_of_methodNamed B.named
  have hlocks := B.notSynchronized
  have hK := hC.1
  have hT := hC.2.1
  have hL := hC.2.2.1
  have hZ := hC.2.2.2.2.1
  have hA := hC.2.2.2.2.2
  have hS : va_S A s_.heap s_.heap [] := va_S.rf
  have hl := lv_entry ([.ref o_, .int a0, .int a1, .int a2]) (n := 6) (Nat.le_of_ble_eq_true rfl)
  rw [lg_entry_eq]
  generalize (lg_sl ([.ref o_, .int a0, .int a1, .int a2]) ++ List.replicate (6 - (lg_sl ([.ref o_, .int a0, .int a1, .int a2])).length) Slot.unset).toArray = ls at hl ⊢
  have hl : lv_has ls 6 [(0, .ref o_), (1, .int a0), (2, .int a1), (3, .int a2)] := hl
  unfold eX1_part at hd
  refine lv_aload_n (pc := 0) hx hb dX1_part_0 rfl (lv_at hl 0 rfl) ?_
  refine lv_iload_n (pc := 1) hx hb dX1_part_1 rfl (lv_at hl 1 rfl) ?_
  obtain ⟨h1, hd⟩ := wt_ck_o hd
  obtain ⟨w2, hc3, hd⟩ := wt_bd_o hd
  refine kX1_run (pc := 2) hfl hx hb hml hown hts hC hW hS h1 hc3 hl.1 (Nat.le_of_ble_eq_true rfl) ⟨Nat.le_of_ble_eq_true rfl, Nat.le_of_ble_eq_true rfl⟩ ⟨(Nat.le_of_ble_eq_true rfl), (Nat.le_of_ble_eq_true rfl)⟩ q1003 dX1_part_2 (fun x_ hx_ E_ ce_ q9_ H locs hXB hS hce hvn hfc => ?_) (fun o4 ho_ H locs hW hS => ?_)
  · have hd := wt_rs_r hx_ hd
    exact hx_out (fun z hz => (hno z hz).elim) hlocks hce hvn hfc (Option.some.inj hd) hXB hS (Nat.le_of_ble_eq_true rfl) (Nat.le_of_ble_eq_true rfl)
  · have hd := wt_rs_l ho_ hd
    refine lv_astore (pc := 5) (lv' := [(4, .ref o4.1), (0, .ref o_), (1, .int a0), (2, .int a1), (3, .int a2)]) hx hb dX1_part_5 hl (by decide) rfl (fun ls hl => ?_)
    refine lv_aload_n (pc := 7) hx hb dX1_part_7 rfl (lv_at hl 1 rfl) ?_
    refine lv_iload_n (pc := 8) hx hb dX1_part_8 rfl (lv_at hl 3 rfl) ?_
    obtain ⟨h5, hd⟩ := wt_ck_o hd
    obtain ⟨w6, hc7, hd⟩ := wt_bd_o hd
    refine kX1_run (pc := 9) hfl hx hb hml hown hts hC hW hS h5 hc7 hl.1 (Nat.le_of_ble_eq_true rfl) ⟨Nat.le_of_ble_eq_true rfl, Nat.le_of_ble_eq_true rfl⟩ ⟨(Nat.le_of_ble_eq_true rfl), (Nat.le_of_ble_eq_true rfl)⟩ q1003 dX1_part_9 (fun x_ hx_ E_ ce_ q9_ H locs hXB hS hce hvn hfc => ?_) (fun o8 ho_ H locs hW hS => ?_)
    · have hd := wt_rs_r hx_ hd
      exact hx_out (fun z hz => (hno z hz).elim) hlocks hce hvn hfc (Option.some.inj hd) hXB hS (Nat.le_of_ble_eq_true rfl) (Nat.le_of_ble_eq_true rfl)
    · have hd := wt_rs_l ho_ hd
      refine lv_astore (pc := 12) (lv' := [(5, .ref o8.1), (4, .ref o4.1), (0, .ref o_), (1, .int a0), (2, .int a1), (3, .int a2)]) hx hb dX1_part_12 hl (by decide) rfl (fun ls hl => ?_)
      refine lv_aload_n (pc := 14) hx hb dX1_part_14 rfl (lv_at hl 2 rfl) ?_
      refine lv_iload_n (pc := 15) hx hb dX1_part_15 rfl (lv_at hl 5 rfl) ?_
      obtain ⟨h9, hd⟩ := wt_ck_o hd
      obtain ⟨w10, hc11, hd⟩ := wt_bd_o hd
      refine kX1_findOf (pc := 16) hfl hx hb hml hown hts hC hW hS h9 hc11 hl.1 (Nat.le_of_ble_eq_true rfl) ⟨Nat.le_of_ble_eq_true rfl, Nat.le_of_ble_eq_true rfl⟩ ⟨(Nat.le_of_ble_eq_true rfl), (Nat.le_of_ble_eq_true rfl)⟩ q1215 dX1_part_16 (fun x_ hx_ E_ ce_ q9_ H locs hXB hS hce hvn hfc => ?_) (fun o12 ho_ H locs hW hS => ?_)
      · have hd := wt_rs_r hx_ hd
        exact hx_out (fun z hz => (hno z hz).elim) hlocks hce hvn hfc (Option.some.inj hd) hXB hS (Nat.le_of_ble_eq_true rfl) (Nat.le_of_ble_eq_true rfl)
      · have hd := wt_rs_l ho_ hd
        refine lv_pop (pc := 19) hx hb dX1_part_19 rfl ?_
        refine lv_aload (pc := 20) hx hb dX1_part_20 (lv_at hl 1 rfl) ?_
        refine lv_aload (pc := 22) hx hb dX1_part_22 (lv_at hl 0 rfl) ?_
        refine lv_iload_n (pc := 24) hx hb dX1_part_24 rfl (lv_at hl 5 rfl) ?_
        obtain ⟨w13, hc14, hd⟩ := wt_bd_o hd
        refine kX1_worthOf (pc := 25) hx hb hml hown hts hC hW hS hc14 hl.1 (Nat.le_of_ble_eq_true rfl) ⟨Nat.le_of_ble_eq_true rfl, Nat.le_of_ble_eq_true rfl⟩ ⟨(Nat.le_of_ble_eq_true rfl), (Nat.le_of_ble_eq_true rfl)⟩ q1346 dX1_part_25 (fun H locs hW hS => ?_)
        refine vx_ret ?_
        exact hx_iret hx hb hr rfl hlocks (Option.some.inj hd) hW hS dX1_part_28 (Nat.le_of_ble_eq_true rfl) (Nat.le_of_ble_eq_true rfl)
theorem kX1_part {p : Program} {l : Launch} {e : Env} {R : Room} {s : State} {m : MethodId} {args : Array Value} {below : List Frame} {meth : Method} {c : Code} {H : Heap} {locs : List Loc} {cells slots : Nat} {Q : State → Prop} {cc : ByteArray} {pc : Nat} {ls : Array Slot} {rest : List Value} {nL : Nat} {own : String} {index : Nat} {G : HG} {A : Nat → Prop} {τ : HP} {o_ : Nat} {a0 : Int32} {a1 : Int32} {a2 : Int32} {out_ : (Int32 × HP) ⊕ (Nat × Nat × HP)} (hfl : l.stackTraces = false) (hx : p.tables.exec = Jvm.exec) (hb : c.code = cc) (hml : c.maxLocals = nL) (hown : s.vm.findClass own = some m.cls) (hts : ∀ w ∈ lw_all, w.before args s = true) (hC : Hcx G A s) (hW : Hw G A τ H) (hS : va_S A s.heap H locs) (hrc : hcl τ o_ = some 0) (hd : eX1_part τ o_ a0 a1 a2 = some out_) (hsz : ls.size = nL) (hrm : (rest.map fun v => v.category).sum ≤ 8) (hR : 12 ≤ R.frames ∧ 277 ≤ R.locals) (hcs : (cells + 125) ≤ R.cells ∧ (slots + 4932) ≤ R.slots) (hlk : Cond.methodLink own index yX1_part ∈ lw_all) (hdg : decode cc pc = .ok (.invokevirtual index, 3)) (kx : ∀ x_ : Nat × Nat × HP, Sum.inr x_ = out_ → ∀ (E : String) (ce : Cell) (q9 : Addr) (H1 : Heap) (locs1 : List Loc), hXb G A E q9 x_ H1 → va_S A s.heap H1 locs1 → H1[q9]? = some ce → ce.vm = .none → s.vm.findClass E = some ce.cls → vx_W p l e R s m args below meth c H1 locs1 (cells + 125) (slots + 4932) Q (F0 m pc ls rest) q9) (kk : ∀ o_1 : Int32 × HP, Sum.inl o_1 = out_ → ∀ (H1 : Heap) (locs1 : List Loc), Hw G A o_1.2 H1 → va_S A s.heap H1 locs1 → W p l e R s m args below meth c H1 locs1 (cells + 125) (slots + 4932) Q (F0 m (pc + 3) ls (.int o_1.1 :: rest))) : W p l e R s m args below meth c H locs cells slots Q (F0 m pc ls (.int a2 :: .int a1 :: .int a0 :: .ref o_ :: rest)) := by
  refine vx_calli (vx_runV (As := [.int a0, .int a1, .int a2]) (rest := rest) ⟨hx, hb, hml, hown, hts⟩ (wX1_part l hfl hd) (cwV 3 hts (lw_V hlk q1365 q1366 q66 q1367) rfl rfl rfl (by decide +kernel) hR) (hr_preV hC hW hS hrc rfl rfl) rfl rfl hsz rfl (lv_room hrm) hdg hcs) hS (fun _ _ h => h) (fun _ h => h) (fun _ _ h => h) (fun E ce q9 u t H1 locs1 ht hvm hp hB hz hk hS1 hce hvn hfc => ?_) (fun r u t H1 locs1 ht hvm hp hB hz hk hS1 => ?_)
  · rw [ht] at hB
    exact kx u hp E ce q9 H1 locs1 hB hS1 hce hvn hfc
  · have hW1 : Hw G A u t.heap := hB
    rw [ht] at hW1
    exact kk (r, u) hp H1 locs1 hW1 hS1
noncomputable def eX1_events (τ : HP) (o_ : Nat) (a0 : Int32) : Option ((Int32 × HP) ⊕ (Nat × Nat × HP)) :=
  wt_ck (hcl τ o_ = some 0) <| wt_bd (eX1_run τ o_ a0) fun w2 => wt_rs w2 (fun o4 => wt_bd (hgA o4.2 o4.1 [8] 0) fun ad5 => wt_ck (hcl o4.2 ad5 = some 13) <| wt_bd (eJ2_size o4.2 ad5) fun w8 => some (.inl (w8, o4.2))) (fun x_ => some (.inr x_))
set_option maxHeartbeats 4000000 in
theorem wX1_events (l : Launch) (hfl : l.stackTraces = false) {G : HG} {A : Nat → Prop} {τ : HP} {o_ : Nat} {a0 : Int32} {out_ : (Int32 × HP) ⊕ (Nat × Nat × HP)} (hd : eX1_events τ o_ a0 = some out_) : vx_Met l yX1_events (ws_ yX1_events cX1_events 2 (some .int)) ({ frames := 7, cells := 1, slots := 7, locals := 131 }) (hPc G A τ [.ref o_, .int a0]) (hXi G A (fun r u => Sum.inl (r, u) = out_)) (hXX G A out_) 1 7 A := by
  refine vx_ofW (cc := cX1_events) (maxL := 2) (ret := (some .int)) (by decide) rfl ?_
  intro p_ e_ s_ m_ args_ below_ meth_ c_ s₁_ B hml hno hv
  obtain ⟨rfl, hW, hC⟩ := hv
  have hx := B.exec
  have hb := B.bytes
  have hr := B.returns
  have hts := atoms_spec (ws := (ws_ yX1_events cX1_events 2 (some .int))) B.pre
  have hts : ∀ w ∈ lw_all, w.before _ s_ = true := fun w h => hts w (List.mem_cons_of_mem _ h)
  have hown : s_.vm.findClass RX1 = some m_.cls := findClass_of_methodNamed B.named
  have hlocks := B.notSynchronized
  have hK := hC.1
  have hT := hC.2.1
  have hL := hC.2.2.1
  have hZ := hC.2.2.2.2.1
  have hA := hC.2.2.2.2.2
  have hS : va_S A s_.heap s_.heap [] := va_S.rf
  have hl := lv_entry ([.ref o_, .int a0]) (n := 2) (Nat.le_of_ble_eq_true rfl)
  rw [lg_entry_eq]
  generalize (lg_sl ([.ref o_, .int a0]) ++ List.replicate (2 - (lg_sl ([.ref o_, .int a0])).length) Slot.unset).toArray = ls at hl ⊢
  have hl : lv_has ls 2 [(0, .ref o_), (1, .int a0)] := hl
  unfold eX1_events at hd
  refine lv_aload_n (pc := 0) hx hb dX1_events_0 rfl (lv_at hl 0 rfl) ?_
  refine lv_iload_n (pc := 1) hx hb dX1_events_1 rfl (lv_at hl 1 rfl) ?_
  obtain ⟨h1, hd⟩ := wt_ck_o hd
  obtain ⟨w2, hc3, hd⟩ := wt_bd_o hd
  refine kX1_run (pc := 2) hfl hx hb hml hown hts hC hW hS h1 hc3 hl.1 (Nat.le_of_ble_eq_true rfl) ⟨Nat.le_of_ble_eq_true rfl, Nat.le_of_ble_eq_true rfl⟩ ⟨(Nat.le_of_ble_eq_true rfl), (Nat.le_of_ble_eq_true rfl)⟩ q1003 dX1_events_2 (fun x_ hx_ E_ ce_ q9_ H locs hXB hS hce hvn hfc => ?_) (fun o4 ho_ H locs hW hS => ?_)
  · have hd := wt_rs_r hx_ hd
    exact hx_out (fun z hz => (hno z hz).elim) hlocks hce hvn hfc (Option.some.inj hd) hXB hS (Nat.le_of_ble_eq_true rfl) (Nat.le_of_ble_eq_true rfl)
  · have hd := wt_rs_l ho_ hd
    obtain ⟨ad5, h6, hd⟩ := wt_bd_o hd
    refine hr_getN (pc := 5) hx hb hts hown hK hT hW (hgA_o h6) hf_8_0 (fun _ h => h) q1030 dX1_events_5 ?_
    obtain ⟨h7, hd⟩ := wt_ck_o hd
    obtain ⟨w8, hc9, hd⟩ := wt_bd_o hd
    refine kJ2_size (pc := 8) hx hb hml hown hts hC hW hS h7 hc9 hl.1 (Nat.le_of_ble_eq_true rfl) ⟨Nat.le_of_ble_eq_true rfl, Nat.le_of_ble_eq_true rfl⟩ ⟨Nat.le_of_ble_eq_true rfl, Nat.le_of_ble_eq_true rfl⟩ q666 dX1_events_8 (fun H locs hW hS => ?_)
    refine vx_ret ?_
    exact hx_iret hx hb hr rfl hlocks (Option.some.inj hd) hW hS dX1_events_11 (Nat.le_of_ble_eq_true rfl) (Nat.le_of_ble_eq_true rfl)
theorem kX1_events {p : Program} {l : Launch} {e : Env} {R : Room} {s : State} {m : MethodId} {args : Array Value} {below : List Frame} {meth : Method} {c : Code} {H : Heap} {locs : List Loc} {cells slots : Nat} {Q : State → Prop} {cc : ByteArray} {pc : Nat} {ls : Array Slot} {rest : List Value} {nL : Nat} {own : String} {index : Nat} {G : HG} {A : Nat → Prop} {τ : HP} {o_ : Nat} {a0 : Int32} {out_ : (Int32 × HP) ⊕ (Nat × Nat × HP)} (hfl : l.stackTraces = false) (hx : p.tables.exec = Jvm.exec) (hb : c.code = cc) (hml : c.maxLocals = nL) (hown : s.vm.findClass own = some m.cls) (hts : ∀ w ∈ lw_all, w.before args s = true) (hC : Hcx G A s) (hW : Hw G A τ H) (hS : va_S A s.heap H locs) (hrc : hcl τ o_ = some 0) (hd : eX1_events τ o_ a0 = some out_) (hsz : ls.size = nL) (hrm : (rest.map fun v => v.category).sum ≤ 8) (hR : 8 ≤ R.frames ∧ 152 ≤ R.locals) (hcs : (cells + 1) ≤ R.cells ∧ (slots + 7) ≤ R.slots) (hlk : Cond.methodLink own index yX1_events ∈ lw_all) (hdg : decode cc pc = .ok (.invokevirtual index, 3)) (kx : ∀ x_ : Nat × Nat × HP, Sum.inr x_ = out_ → ∀ (E : String) (ce : Cell) (q9 : Addr) (H1 : Heap) (locs1 : List Loc), hXb G A E q9 x_ H1 → va_S A s.heap H1 locs1 → H1[q9]? = some ce → ce.vm = .none → s.vm.findClass E = some ce.cls → vx_W p l e R s m args below meth c H1 locs1 (cells + 1) (slots + 7) Q (F0 m pc ls rest) q9) (kk : ∀ o_1 : Int32 × HP, Sum.inl o_1 = out_ → ∀ (H1 : Heap) (locs1 : List Loc), Hw G A o_1.2 H1 → va_S A s.heap H1 locs1 → W p l e R s m args below meth c H1 locs1 (cells + 1) (slots + 7) Q (F0 m (pc + 3) ls (.int o_1.1 :: rest))) : W p l e R s m args below meth c H locs cells slots Q (F0 m pc ls (.int a0 :: .ref o_ :: rest)) := by
  refine vx_calli (vx_runV (As := [.int a0]) (rest := rest) ⟨hx, hb, hml, hown, hts⟩ (wX1_events l hfl hd) (cwV 1 hts (lw_V hlk q1372 q1373 q66 q1374) rfl rfl rfl (by decide +kernel) hR) (hr_preV hC hW hS hrc rfl rfl) rfl rfl hsz rfl (lv_room hrm) hdg hcs) hS (fun _ _ h => h) (fun _ h => h) (fun _ _ h => h) (fun E ce q9 u t H1 locs1 ht hvm hp hB hz hk hS1 hce hvn hfc => ?_) (fun r u t H1 locs1 ht hvm hp hB hz hk hS1 => ?_)
  · rw [ht] at hB
    exact kx u hp E ce q9 H1 locs1 hB hS1 hce hvn hfc
  · have hW1 : Hw G A u t.heap := hB
    rw [ht] at hW1
    exact kk (r, u) hp H1 locs1 hW1 hS1
noncomputable def eX1_isEvent (τ : HP) (a0 : Nat) (a1 : Int32) : Option ((Unit) ⊕ (Nat × Nat × HP)) :=
  wt_bd (if a1 < 0 then (some (.inl ())) else (wt_bd (hgA τ a0 [8] 0) fun ad6 => wt_ck (hcl τ ad6 = some 13) <| wt_bd (eJ2_size τ ad6) fun w9 => if a1 < w9 then (some (.inr (.inl ()))) else (some (.inl ())))) fun w1 => wt_rs w1 (fun w1 => some (.inr (102, 0, τ))) (fun z_ => some z_)
set_option maxHeartbeats 4000000 in
theorem wX1_isEvent (l : Launch) (hfl : l.stackTraces = false) {G : HG} {A : Nat → Prop} {τ : HP} {a0 : Nat} {a1 : Int32} {out_ : (Unit) ⊕ (Nat × Nat × HP)} (hd : eX1_isEvent τ a0 a1 = some out_) : vx_Met l yX1_isEvent (ws_ yX1_isEvent cX1_isEvent 2 none) ({ frames := 6, cells := 1, slots := 6, locals := 110 }) (hPc G A τ [.ref a0, .int a1]) (hXv G A (fun u => Sum.inl () = out_ ∧ u = τ)) (hXX G A out_) 1 6 A := by
  refine vx_ofW (cc := cX1_isEvent) (maxL := 2) (ret := none) (by decide) rfl ?_
  intro p_ e_ s_ m_ args_ below_ meth_ c_ s₁_ B hml hno hv
  obtain ⟨rfl, hW, hC⟩ := hv
  have hx := B.exec
  have hb := B.bytes
  have hr := B.returns
  have hts := atoms_spec (ws := (ws_ yX1_isEvent cX1_isEvent 2 none)) B.pre
  have hts : ∀ w ∈ lw_all, w.before _ s_ = true := fun w h => hts w (List.mem_cons_of_mem _ h)
  have hown : s_.vm.findClass RX1 = some m_.cls := findClass_of_methodNamed B.named
  have hlocks := B.notSynchronized
  have hK := hC.1
  have hT := hC.2.1
  have hL := hC.2.2.1
  have hZ := hC.2.2.2.2.1
  have hA := hC.2.2.2.2.2
  have hS : va_S A s_.heap s_.heap [] := va_S.rf
  have hl := lv_entry ([.ref a0, .int a1]) (n := 2) (Nat.le_of_ble_eq_true rfl)
  rw [lg_entry_eq]
  generalize (lg_sl ([.ref a0, .int a1]) ++ List.replicate (2 - (lg_sl ([.ref a0, .int a1])).length) Slot.unset).toArray = ls at hl ⊢
  have hl : lv_has ls 2 [(0, .ref a0), (1, .int a1)] := hl
  unfold eX1_isEvent at hd
  refine lv_iload_n (pc := 0) hx hb dX1_isEvent_0 rfl (lv_at hl 1 rfl) ?_
  obtain ⟨w1, hj2, hq3⟩ := wt_bd_o hd
  have hX4 : ∀ w1_ : Unit, (Sum.inl w1_ : (Unit) ⊕ _) = w1 → ∀ (H : Heap) (locs : List Loc) (ls : Array Slot), Hw G A τ H → va_S A s_.heap H locs → lv_has ls 2 [] → W p_ l e_ (headSpec (ws_ yX1_isEvent cX1_isEvent 2 none) ({ frames := 6, cells := 1, slots := 6, locals := 110 })).room s_ m_ ([.ref a0, .int a1] : List Value).toArray below_ meth_ c_ H locs 0 0 (vx_MQ below_ (hXv G A (fun u => Sum.inl () = out_ ∧ u = τ)) (hXX G A out_) ([.ref a0, .int a1] : List Value).toArray s_ 1 6 A) (F0 m_ 15 ls []) := by
    intro w1_ hw_
    have hd := wt_rs_l hw_ hq3
    clear hj2 hq3
    intro H locs ls hW hS hl
    exact hx_throw_iob_X1 (pc := 15) hx hb hfl hts hown hC hW hS (hl.1.trans hml.symm) hlocks hno (Option.some.inj hd) dX1_isEvent_15 dX1_isEvent_18 dX1_isEvent_19 dX1_isEvent_22 (Nat.le_of_ble_eq_true rfl) (Nat.le_of_ble_eq_true rfl) ⟨Nat.le_of_ble_eq_true rfl, Nat.le_of_ble_eq_true rfl⟩ (Nat.le_of_ble_eq_true rfl) (Nat.le_of_ble_eq_true rfl)
  have hd := hj2
  refine lv_if_lt (pc := 1) (tgt := 15) hx hb dX1_isEvent_1 (by decide) (fun c5 => ?_) (fun c5 => ?_)
  · have hd := wt_it hd c5
    exact hX4 () (Option.some.inj hd) _ _ _ hW hS (lv_sub hl [] rfl)
  · have hd := wt_if hd c5
    refine lv_iload_n (pc := 4) hx hb dX1_isEvent_4 rfl (lv_at hl 1 rfl) ?_
    refine lv_aload_n (pc := 5) hx hb dX1_isEvent_5 rfl (lv_at hl 0 rfl) ?_
    obtain ⟨ad6, h7, hd⟩ := wt_bd_o hd
    refine hr_getN (pc := 6) hx hb hts hown hK hT hW (hgA_o h7) hf_8_0 (fun _ h => h) q1030 dX1_isEvent_6 ?_
    obtain ⟨h8, hd⟩ := wt_ck_o hd
    obtain ⟨w9, hc10, hd⟩ := wt_bd_o hd
    refine kJ2_size (pc := 9) hx hb hml hown hts hC hW hS h8 hc10 hl.1 (Nat.le_of_ble_eq_true rfl) ⟨Nat.le_of_ble_eq_true rfl, Nat.le_of_ble_eq_true rfl⟩ ⟨Nat.le_of_ble_eq_true rfl, Nat.le_of_ble_eq_true rfl⟩ q666 dX1_isEvent_9 (fun H locs hW hS => ?_)
    refine lv_icmp_lt (pc := 12) (tgt := 23) hx hb dX1_isEvent_12 (by decide) (fun c11 => ?_) (fun c11 => ?_)
    · have hd := wt_it hd c11
      have hd := wt_rs_r (Option.some.inj hd) hq3
      refine vx_ret ?_
      exact hx_vret hx hb hr hlocks ⟨(Option.some.inj hd), rfl⟩ hW hS dX1_isEvent_23 (Nat.le_of_ble_eq_true rfl) (Nat.le_of_ble_eq_true rfl)
    · have hd := wt_if hd c11
      exact hX4 () (Option.some.inj hd) _ _ _ hW hS (lv_sub hl [] rfl)
theorem kX1_isEvent {p : Program} {l : Launch} {e : Env} {R : Room} {s : State} {m : MethodId} {args : Array Value} {below : List Frame} {meth : Method} {c : Code} {H : Heap} {locs : List Loc} {cells slots : Nat} {Q : State → Prop} {cc : ByteArray} {pc : Nat} {ls : Array Slot} {rest : List Value} {nL : Nat} {own : String} {index : Nat} {G : HG} {A : Nat → Prop} {τ : HP} {a0 : Nat} {a1 : Int32} {out_ : (Unit) ⊕ (Nat × Nat × HP)} (hfl : l.stackTraces = false) (hx : p.tables.exec = Jvm.exec) (hb : c.code = cc) (hml : c.maxLocals = nL) (hown : s.vm.findClass own = some m.cls) (hts : ∀ w ∈ lw_all, w.before args s = true) (hC : Hcx G A s) (hW : Hw G A τ H) (hS : va_S A s.heap H locs) (hd : eX1_isEvent τ a0 a1 = some out_) (hsz : ls.size = nL) (hrm : (rest.map fun v => v.category).sum ≤ 8) (hR : 7 ≤ R.frames ∧ 131 ≤ R.locals) (hcs : (cells + 1) ≤ R.cells ∧ (slots + 6) ≤ R.slots) (hlk : Cond.methodLink own index yX1_isEvent ∈ lw_all) (hdg : decode cc pc = .ok (.invokestatic index, 3)) (kx : ∀ x_ : Nat × Nat × HP, Sum.inr x_ = out_ → ∀ (E : String) (ce : Cell) (q9 : Addr) (H1 : Heap) (locs1 : List Loc), hXb G A E q9 x_ H1 → va_S A s.heap H1 locs1 → H1[q9]? = some ce → ce.vm = .none → s.vm.findClass E = some ce.cls → vx_W p l e R s m args below meth c H1 locs1 (cells + 1) (slots + 6) Q (F0 m pc ls rest) q9) (kk : ∀ o_1 : Unit, Sum.inl o_1 = out_ → ∀ (H1 : Heap) (locs1 : List Loc), Hw G A τ H1 → va_S A s.heap H1 locs1 → W p l e R s m args below meth c H1 locs1 (cells + 1) (slots + 6) Q (F0 m (pc + 3) ls (rest))) : W p l e R s m args below meth c H locs cells slots Q (F0 m pc ls (.int a1 :: .ref a0 :: rest)) := by
  refine vx_callv (vx_runS (As := [.ref a0, .int a1]) (rest := rest) ⟨hx, hb, hml, hown, hts⟩ (wX1_isEvent l hfl hd) (va_cwS 2 hts (lw_S hlk q1383 q66 q1384) rfl rfl rfl (by decide +kernel) hR) (hr_preS hC hW hS) rfl rfl hsz rfl (lv_room hrm) hdg hcs) hS (fun _ _ h => h) (fun _ h => h) (fun _ _ h => h) (fun E ce q9 u t H1 locs1 ht hvm hp hB hz hk hS1 hce hvn hfc => ?_) (fun u t H1 locs1 ht hvm hp hB hz hk hS1 => ?_)
  · rw [ht] at hB
    exact kx u hp E ce q9 H1 locs1 hB hS1 hce hvn hfc
  · have hW1 : Hw G A u t.heap := hB
    rw [ht] at hW1
    obtain ⟨hp, rfl⟩ := hp
    exact kk () hp H1 locs1 hW1 hS1
noncomputable def eX1_without (τ : HP) (o_ : Nat) (a0 : Nat) (a1 : Int32) : Option (Nat × HP) :=
  wt_lt (hnew τ (.inr (8, [.null, .int 0, .null, .int 0, .int 0, .int 0, .null]))) fun τ1 => wt_bd (hgA τ1 a0 [8] 0) fun ad2 => wt_bd (eX11_init τ1 τ.2 o_ ad2) fun w4 => wt_bd (hp w4 τ.2 [8] 1 (.int a1)) fun τ6 => some (τ.2, τ6)
set_option maxHeartbeats 4000000 in
theorem wX1_without (l : Launch) {G : HG} {A : Nat → Prop} {τ : HP} {o_ : Nat} {a0 : Nat} {a1 : Int32} {out_ : Nat × HP} (hd : eX1_without τ o_ a0 a1 = some out_) : Met l yX1_without (ws_ yX1_without cX1_without 4 (some (.object "WoolThreads$Run"))) ({ frames := 2, cells := 1, slots := 7, locals := 54 }) (hPc G A τ [.ref o_, .ref a0, .int a1]) (hQr G out_.1 out_.2 A) 1 7 A := by
  refine Met.ofW (cc := cX1_without) (maxL := 4) (ret := (some (.object "WoolThreads$Run"))) (by decide) rfl ?_
  intro p_ e_ s_ m_ args_ below_ meth_ c_ s₁_ B hml hv
  obtain ⟨rfl, hW, hC⟩ := hv
  have hx := B.exec
  have hb := B.bytes
  have hr := B.returns
  have hts := atoms_spec (ws := (ws_ yX1_without cX1_without 4 (some (.object "WoolThreads$Run")))) B.pre
  have hts : ∀ w ∈ lw_all, w.before _ s_ = true := fun w h => hts w (List.mem_cons_of_mem _ h)
  have hown : s_.vm.findClass RX1 = some m_.cls := findClass_of_methodNamed B.named
  have hlocks := B.notSynchronized
  have hK := hC.1
  have hT := hC.2.1
  have hL := hC.2.2.1
  have hZ := hC.2.2.2.2.1
  have hA := hC.2.2.2.2.2
  have hS : va_S A s_.heap s_.heap [] := va_S.rf
  have hl := lv_entry ([.ref o_, .ref a0, .int a1]) (n := 4) (Nat.le_of_ble_eq_true rfl)
  rw [lg_entry_eq]
  generalize (lg_sl ([.ref o_, .ref a0, .int a1]) ++ List.replicate (4 - (lg_sl ([.ref o_, .ref a0, .int a1])).length) Slot.unset).toArray = ls at hl ⊢
  have hl : lv_has ls 4 [(0, .ref o_), (1, .ref a0), (2, .int a1)] := hl
  unfold eX1_without at hd
  obtain ⟨τ1, eτ1, hd⟩ := wt_lt_o hd
  refine hr_new (pc := 0) (ci := 8) (fs := [.null, .int 0, .null, .int 0, .int 0, .int 0, .null]) hx hb hts hown hK hW hS hA rfl tyX11 tyX11_ok (by decide +kernel) q1022 q1023 q97 eτ1 (Nat.le_of_ble_eq_true rfl) (Nat.le_of_ble_eq_true rfl) dX1_without_0 (fun H hW hS => ?_)
  refine lv_dup (pc := 3) hx hb dX1_without_3 rfl ?_
  refine lv_aload_n (pc := 4) hx hb dX1_without_4 rfl (lv_at hl 0 rfl) ?_
  refine lv_aload_n (pc := 5) hx hb dX1_without_5 rfl (lv_at hl 1 rfl) ?_
  obtain ⟨ad2, h3, hd⟩ := wt_bd_o hd
  refine hr_getN (pc := 6) hx hb hts hown hK hT hW (hgA_o h3) hf_8_0 (fun _ h => h) q1030 dX1_without_6 ?_
  obtain ⟨w4, hc5, hd⟩ := wt_bd_o hd
  refine kX11_init (pc := 9) hx hb hml hown hts hC hW hS hc5 hl.1 (Nat.le_of_ble_eq_true rfl) ⟨Nat.le_of_ble_eq_true rfl, Nat.le_of_ble_eq_true rfl⟩ ⟨Nat.le_of_ble_eq_true rfl, Nat.le_of_ble_eq_true rfl⟩ q1025 dX1_without_9 (fun H locs hW hS => ?_)
  refine lv_astore_n (pc := 12) (lv' := [(3, .ref (τ.2)), (0, .ref o_), (1, .ref a0), (2, .int a1)]) hx hb dX1_without_12 rfl hl (by decide) rfl (fun ls hl => ?_)
  refine lv_aload_n (pc := 13) hx hb dX1_without_13 rfl (lv_at hl 0 rfl) ?_
  refine lv_iload_n (pc := 14) hx hb dX1_without_14 rfl (lv_at hl 3 rfl) ?_
  obtain ⟨τ6, h7, hd⟩ := wt_bd_o hd
  refine hr_putN (pc := 15) (ty := .int) hx hb hts hown hK hT hW hS h7 hf_8_1 (by decide +kernel) rfl rfl (fun _ h => h) q1032 dX1_without_15 (fun H locs hW hS => ?_)
  refine lv_aload_n (pc := 18) hx hb dX1_without_18 rfl (lv_at hl 0 rfl) ?_
  exact hr_aret hx hb hr (Or.inl ⟨_, rfl⟩) hlocks (wt_p1 hd) (wt_p2 hd) hW hS dX1_without_19 (Nat.le_of_ble_eq_true rfl) (Nat.le_of_ble_eq_true rfl)
theorem kX1_without {p : Program} {l : Launch} {e : Env} {R : Room} {s : State} {m : MethodId} {args : Array Value} {below : List Frame} {meth : Method} {c : Code} {H : Heap} {locs : List Loc} {cells slots : Nat} {Q : State → Prop} {cc : ByteArray} {pc : Nat} {ls : Array Slot} {rest : List Value} {nL : Nat} {own : String} {index : Nat} {G : HG} {A : Nat → Prop} {τ : HP} {o_ : Nat} {a0 : Nat} {a1 : Int32} {out_ : Nat × HP} (hx : p.tables.exec = Jvm.exec) (hb : c.code = cc) (hml : c.maxLocals = nL) (hown : s.vm.findClass own = some m.cls) (hts : ∀ w ∈ lw_all, w.before args s = true) (hC : Hcx G A s) (hW : Hw G A τ H) (hS : va_S A s.heap H locs) (hrc : hcl τ o_ = some 0) (hd : eX1_without τ o_ a0 a1 = some out_) (hsz : ls.size = nL) (hrm : (rest.map fun v => v.category).sum ≤ 8) (hR : 3 ≤ R.frames ∧ 77 ≤ R.locals) (hcs : (cells + 1) ≤ R.cells ∧ (slots + 7) ≤ R.slots) (hlk : Cond.methodLink own index yX1_without ∈ lw_all) (hdg : decode cc pc = .ok (.invokevirtual index, 3)) (kk : ∀ (H1 : Heap) (locs1 : List Loc), Hw G A out_.2 H1 → va_S A s.heap H1 locs1 → W p l e R s m args below meth c H1 locs1 (cells + 1) (slots + 7) Q (F0 m (pc + 3) ls (.ref out_.1 :: rest))) : W p l e R s m args below meth c H locs cells slots Q (F0 m pc ls (.int a1 :: .ref a0 :: .ref o_ :: rest)) := by
  refine va_callr (va_runV (As := [.ref a0, .int a1]) (rest := rest) ⟨hx, hb, hml, hown, hts⟩ (wX1_without l hd) (cwV 2 hts (lw_V hlk q1387 qs21 q66 q1388) rfl rfl rfl (by decide +kernel) hR) (hr_preV hC hW hS hrc rfl rfl) rfl rfl hsz rfl (lv_room hrm) hdg hcs) hS (fun _ _ h => h) (fun _ h => h) (fun u ra t H1 locs1 ht hvm hp hB hz hk hS1 => ?_)
  have hp : ra = out_.1 := hB.1
  subst hp
  have hW1 : Hw G A out_.2 t.heap := hB.2
  rw [ht] at hW1
  exact kk H1 locs1 hW1 hS1
noncomputable def eX1_counts (τ : HP) (o_ : Nat) (a0 : Int32) (a1 : Int32) : Option ((Int32 × HP) ⊕ (Nat × Nat × HP)) :=
  wt_ck (hcl τ o_ = some 0) <| wt_bd (eX1_run τ o_ a0) fun w2 => wt_rs w2 (fun o4 => wt_bd (eX1_isEvent o4.2 o4.1 a1) fun w5 => wt_rs w5 (fun o7 => wt_ck (hcl o4.2 o_ = some 0) <| wt_bd (eX1_without o4.2 o_ o4.1 a1) fun w9 => wt_bd (eX1_worthOf w9.2 o4.1 w9.1 (-1 : Int32)) fun w11 => some (.inl (w11.1, w11.2))) (fun x_ => some (.inr x_))) (fun x_ => some (.inr x_))
set_option maxHeartbeats 4000000 in
theorem wX1_counts (l : Launch) (hfl : l.stackTraces = false) {G : HG} {A : Nat → Prop} {τ : HP} {o_ : Nat} {a0 : Int32} {a1 : Int32} {out_ : (Int32 × HP) ⊕ (Nat × Nat × HP)} (hd : eX1_counts τ o_ a0 a1 = some out_) : vx_Met l yX1_counts (ws_ yX1_counts cX1_counts 4 (some .int)) ({ frames := 11, cells := 125, slots := 4932, locals := 252 }) (hPc G A τ [.ref o_, .int a0, .int a1]) (hXi G A (fun r u => Sum.inl (r, u) = out_)) (hXX G A out_) 125 4932 A := by
  refine vx_ofW (cc := cX1_counts) (maxL := 4) (ret := (some .int)) (by decide) rfl ?_
  intro p_ e_ s_ m_ args_ below_ meth_ c_ s₁_ B hml hno hv
  obtain ⟨rfl, hW, hC⟩ := hv
  have hx := B.exec
  have hb := B.bytes
  have hr := B.returns
  have hts := atoms_spec (ws := (ws_ yX1_counts cX1_counts 4 (some .int))) B.pre
  have hts : ∀ w ∈ lw_all, w.before _ s_ = true := fun w h => hts w (List.mem_cons_of_mem _ h)
  have hown : s_.vm.findClass RX1 = some m_.cls := findClass_of_methodNamed B.named
  have hlocks := B.notSynchronized
  have hK := hC.1
  have hT := hC.2.1
  have hL := hC.2.2.1
  have hZ := hC.2.2.2.2.1
  have hA := hC.2.2.2.2.2
  have hS : va_S A s_.heap s_.heap [] := va_S.rf
  have hl := lv_entry ([.ref o_, .int a0, .int a1]) (n := 4) (Nat.le_of_ble_eq_true rfl)
  rw [lg_entry_eq]
  generalize (lg_sl ([.ref o_, .int a0, .int a1]) ++ List.replicate (4 - (lg_sl ([.ref o_, .int a0, .int a1])).length) Slot.unset).toArray = ls at hl ⊢
  have hl : lv_has ls 4 [(0, .ref o_), (1, .int a0), (2, .int a1)] := hl
  unfold eX1_counts at hd
  refine lv_aload_n (pc := 0) hx hb dX1_counts_0 rfl (lv_at hl 0 rfl) ?_
  refine lv_iload_n (pc := 1) hx hb dX1_counts_1 rfl (lv_at hl 1 rfl) ?_
  obtain ⟨h1, hd⟩ := wt_ck_o hd
  obtain ⟨w2, hc3, hd⟩ := wt_bd_o hd
  refine kX1_run (pc := 2) hfl hx hb hml hown hts hC hW hS h1 hc3 hl.1 (Nat.le_of_ble_eq_true rfl) ⟨Nat.le_of_ble_eq_true rfl, Nat.le_of_ble_eq_true rfl⟩ ⟨(Nat.le_of_ble_eq_true rfl), (Nat.le_of_ble_eq_true rfl)⟩ q1003 dX1_counts_2 (fun x_ hx_ E_ ce_ q9_ H locs hXB hS hce hvn hfc => ?_) (fun o4 ho_ H locs hW hS => ?_)
  · have hd := wt_rs_r hx_ hd
    exact hx_out (fun z hz => (hno z hz).elim) hlocks hce hvn hfc (Option.some.inj hd) hXB hS (Nat.le_of_ble_eq_true rfl) (Nat.le_of_ble_eq_true rfl)
  · have hd := wt_rs_l ho_ hd
    refine lv_astore_n (pc := 5) (lv' := [(3, .ref o4.1), (0, .ref o_), (1, .int a0), (2, .int a1)]) hx hb dX1_counts_5 rfl hl (by decide) rfl (fun ls hl => ?_)
    refine lv_aload_n (pc := 6) hx hb dX1_counts_6 rfl (lv_at hl 0 rfl) ?_
    refine lv_iload_n (pc := 7) hx hb dX1_counts_7 rfl (lv_at hl 3 rfl) ?_
    obtain ⟨w5, hc6, hd⟩ := wt_bd_o hd
    refine kX1_isEvent (pc := 8) hfl hx hb hml hown hts hC hW hS hc6 hl.1 (Nat.le_of_ble_eq_true rfl) ⟨Nat.le_of_ble_eq_true rfl, Nat.le_of_ble_eq_true rfl⟩ ⟨(Nat.le_of_ble_eq_true rfl), (Nat.le_of_ble_eq_true rfl)⟩ q1382 dX1_counts_8 (fun x_ hx_ E_ ce_ q9_ H locs hXB hS hce hvn hfc => ?_) (fun o7 ho_ H locs hW hS => ?_)
    · have hd := wt_rs_r hx_ hd
      exact hx_out (fun z hz => (hno z hz).elim) hlocks hce hvn hfc (Option.some.inj hd) hXB hS (Nat.le_of_ble_eq_true rfl) (Nat.le_of_ble_eq_true rfl)
    · have hd := wt_rs_l ho_ hd
      refine lv_aload_n (pc := 11) hx hb dX1_counts_11 rfl (lv_at hl 0 rfl) ?_
      refine lv_aload_n (pc := 12) hx hb dX1_counts_12 rfl (lv_at hl 1 rfl) ?_
      refine lv_aload_n (pc := 13) hx hb dX1_counts_13 rfl (lv_at hl 0 rfl) ?_
      refine lv_iload_n (pc := 14) hx hb dX1_counts_14 rfl (lv_at hl 3 rfl) ?_
      obtain ⟨h8, hd⟩ := wt_ck_o hd
      obtain ⟨w9, hc10, hd⟩ := wt_bd_o hd
      refine kX1_without (pc := 15) hx hb hml hown hts hC hW hS h8 hc10 hl.1 (Nat.le_of_ble_eq_true rfl) ⟨Nat.le_of_ble_eq_true rfl, Nat.le_of_ble_eq_true rfl⟩ ⟨(Nat.le_of_ble_eq_true rfl), (Nat.le_of_ble_eq_true rfl)⟩ q1385 dX1_counts_15 (fun H locs hW hS => ?_)
      refine lv_iconst (pc := 18) (v := -1) hx hb dX1_counts_18 (by decide) ?_
      obtain ⟨w11, hc12, hd⟩ := wt_bd_o hd
      refine kX1_worthOf (pc := 19) hx hb hml hown hts hC hW hS hc12 hl.1 (Nat.le_of_ble_eq_true rfl) ⟨Nat.le_of_ble_eq_true rfl, Nat.le_of_ble_eq_true rfl⟩ ⟨(Nat.le_of_ble_eq_true rfl), (Nat.le_of_ble_eq_true rfl)⟩ q1346 dX1_counts_19 (fun H locs hW hS => ?_)
      refine vx_ret ?_
      exact hx_iret hx hb hr rfl hlocks (Option.some.inj hd) hW hS dX1_counts_22 (Nat.le_of_ble_eq_true rfl) (Nat.le_of_ble_eq_true rfl)
theorem kX1_counts {p : Program} {l : Launch} {e : Env} {R : Room} {s : State} {m : MethodId} {args : Array Value} {below : List Frame} {meth : Method} {c : Code} {H : Heap} {locs : List Loc} {cells slots : Nat} {Q : State → Prop} {cc : ByteArray} {pc : Nat} {ls : Array Slot} {rest : List Value} {nL : Nat} {own : String} {index : Nat} {G : HG} {A : Nat → Prop} {τ : HP} {o_ : Nat} {a0 : Int32} {a1 : Int32} {out_ : (Int32 × HP) ⊕ (Nat × Nat × HP)} (hfl : l.stackTraces = false) (hx : p.tables.exec = Jvm.exec) (hb : c.code = cc) (hml : c.maxLocals = nL) (hown : s.vm.findClass own = some m.cls) (hts : ∀ w ∈ lw_all, w.before args s = true) (hC : Hcx G A s) (hW : Hw G A τ H) (hS : va_S A s.heap H locs) (hrc : hcl τ o_ = some 0) (hd : eX1_counts τ o_ a0 a1 = some out_) (hsz : ls.size = nL) (hrm : (rest.map fun v => v.category).sum ≤ 8) (hR : 12 ≤ R.frames ∧ 275 ≤ R.locals) (hcs : (cells + 125) ≤ R.cells ∧ (slots + 4932) ≤ R.slots) (hlk : Cond.methodLink own index yX1_counts ∈ lw_all) (hdg : decode cc pc = .ok (.invokevirtual index, 3)) (kx : ∀ x_ : Nat × Nat × HP, Sum.inr x_ = out_ → ∀ (E : String) (ce : Cell) (q9 : Addr) (H1 : Heap) (locs1 : List Loc), hXb G A E q9 x_ H1 → va_S A s.heap H1 locs1 → H1[q9]? = some ce → ce.vm = .none → s.vm.findClass E = some ce.cls → vx_W p l e R s m args below meth c H1 locs1 (cells + 125) (slots + 4932) Q (F0 m pc ls rest) q9) (kk : ∀ o_1 : Int32 × HP, Sum.inl o_1 = out_ → ∀ (H1 : Heap) (locs1 : List Loc), Hw G A o_1.2 H1 → va_S A s.heap H1 locs1 → W p l e R s m args below meth c H1 locs1 (cells + 125) (slots + 4932) Q (F0 m (pc + 3) ls (.int o_1.1 :: rest))) : W p l e R s m args below meth c H locs cells slots Q (F0 m pc ls (.int a1 :: .int a0 :: .ref o_ :: rest)) := by
  refine vx_calli (vx_runV (As := [.int a0, .int a1]) (rest := rest) ⟨hx, hb, hml, hown, hts⟩ (wX1_counts l hfl hd) (cwV 2 hts (lw_V hlk q1379 q1380 q66 q1381) rfl rfl rfl (by decide +kernel) hR) (hr_preV hC hW hS hrc rfl rfl) rfl rfl hsz rfl (lv_room hrm) hdg hcs) hS (fun _ _ h => h) (fun _ h => h) (fun _ _ h => h) (fun E ce q9 u t H1 locs1 ht hvm hp hB hz hk hS1 hce hvn hfc => ?_) (fun r u t H1 locs1 ht hvm hp hB hz hk hS1 => ?_)
  · rw [ht] at hB
    exact kx u hp E ce q9 H1 locs1 hB hS1 hce hvn hfc
  · have hW1 : Hw G A u t.heap := hB
    rw [ht] at hW1
    exact kk (r, u) hp H1 locs1 hW1 hS1
noncomputable def bX1_needed_1 (o_ : Nat) (a1 : Int32) (o4 : Nat × HP) (v12 : Int32 × Int32 × HP × Nat × Nat) : Option ((Int32 × Int32 × HP × Nat × Nat) ⊕ ((HP × Nat × Nat) ⊕ ((Int32 × HP) ⊕ (Nat × Nat × HP)))) :=
  wt_bd (hgA v12.2.2.1 o4.1 [8] 0) fun ad22 => wt_ck (hcl v12.2.2.1 ad22 = some 13) <| wt_bd (eJ2_size v12.2.2.1 ad22) fun w25 => wt_ck (v12.2.2.2.1 ≤ 900 ∧ v12.2.2.2.2 ≤ 34000) <| if w25 ≤ v12.2.1 then (some (.inr (.inl (v12.2.2.1, v12.2.2.2.1, v12.2.2.2.2)))) else (wt_ck (hcl v12.2.2.1 o_ = some 0) <| wt_bd (eX1_without v12.2.2.1 o_ o4.1 v12.2.1) fun w30 => wt_ck ((v12.2.2.2.1 + 1) ≤ 900 ∧ (v12.2.2.2.2 + 7) ≤ 34000) <| wt_ck (hcl w30.2 w30.1 = some 8) <| wt_bd (eX11_number w30.2 w30.1 (-1 : Int32)) fun w34 => wt_ck ((v12.2.2.2.1 + 31) ≤ 900 ∧ (v12.2.2.2.2 + 1307) ≤ 34000) <| wt_ck (hcl w34.2 w34.1 = some 11) <| wt_bd (eX14_isZero w34.2 w34.1) fun w38 => wt_ck ((v12.2.2.2.1 + 31) ≤ 900 ∧ (v12.2.2.2.2 + 1307) ≤ 34000) <| if w38 = 0 then (wt_lt (v12.2.1 + (1 : Int32)) fun n46 => some (.inl (v12.1, n46, w34.2, (v12.2.2.2.1 + 31), (v12.2.2.2.2 + 1307)))) else (if v12.1 = a1 then (wt_ck ((v12.2.2.2.1 + 31) ≤ 900 ∧ (v12.2.2.2.2 + 1307) ≤ 34000) <| some (.inr (.inr (.inl (v12.2.1, w34.2))))) else (wt_lt (v12.1 + (1 : Int32)) fun n43 => wt_lt (v12.2.1 + (1 : Int32)) fun n44 => some (.inl (n43, n44, w34.2, (v12.2.2.2.1 + 31), (v12.2.2.2.2 + 1307))))))
noncomputable def eX1_needed (τ : HP) (o_ : Nat) (a0 : Int32) (a1 : Int32) : Option ((Int32 × HP) ⊕ (Nat × Nat × HP)) :=
  wt_ck (hcl τ o_ = some 0) <| wt_bd (eX1_run τ o_ a0) fun w2 => wt_rs w2 (fun o4 => wt_ck (hcl o4.2 o4.1 = some 8) <| wt_bd (eX11_number o4.2 o4.1 (-1 : Int32)) fun w6 => wt_ck (hcl w6.2 w6.1 = some 11) <| wt_bd (eX14_isZero w6.2 w6.1) fun w9 => if w9 = 0 then (wt_bd (wt_whC (bX1_needed_1 o_ a1 o4) ((0 : Int32), (0 : Int32), w6.2, 31, 1307)) fun w13 => wt_rs w13 (fun w13 => wt_ck (w13.2.1 ≤ 900 ∧ w13.2.2 ≤ 34000) <| some (.inl ((-1 : Int32), w13.1))) (fun z_ => some z_)) else (some (.inl ((-1 : Int32), w6.2)))) (fun x_ => some (.inr x_))
set_option maxHeartbeats 4000000 in
theorem wX1_needed (l : Launch) (hfl : l.stackTraces = false) {G : HG} {A : Nat → Prop} {τ : HP} {o_ : Nat} {a0 : Int32} {a1 : Int32} {out_ : (Int32 × HP) ⊕ (Nat × Nat × HP)} (hd : eX1_needed τ o_ a0 a1 = some out_) : vx_Met l yX1_needed (ws_ yX1_needed cX1_needed 6 (some .int)) ({ frames := 9, cells := 900, slots := 34000, locals := 200 }) (hPc G A τ [.ref o_, .int a0, .int a1]) (hXi G A (fun r u => Sum.inl (r, u) = out_)) (hXX G A out_) 900 34000 A := by
  refine vx_ofW (cc := cX1_needed) (maxL := 6) (ret := (some .int)) (by decide) rfl ?_
  intro p_ e_ s_ m_ args_ below_ meth_ c_ s₁_ B hml hno hv
  obtain ⟨rfl, hW, hC⟩ := hv
  have hx := B.exec
  have hb := B.bytes
  have hr := B.returns
  have hts := atoms_spec (ws := (ws_ yX1_needed cX1_needed 6 (some .int))) B.pre
  have hts : ∀ w ∈ lw_all, w.before _ s_ = true := fun w h => hts w (List.mem_cons_of_mem _ h)
  have hown : s_.vm.findClass RX1 = some m_.cls := findClass_of_methodNamed B.named
  have hlocks := B.notSynchronized
  have hK := hC.1
  have hT := hC.2.1
  have hL := hC.2.2.1
  have hZ := hC.2.2.2.2.1
  have hA := hC.2.2.2.2.2
  have hS : va_S A s_.heap s_.heap [] := va_S.rf
  have hl := lv_entry ([.ref o_, .int a0, .int a1]) (n := 6) (Nat.le_of_ble_eq_true rfl)
  rw [lg_entry_eq]
  generalize (lg_sl ([.ref o_, .int a0, .int a1]) ++ List.replicate (6 - (lg_sl ([.ref o_, .int a0, .int a1])).length) Slot.unset).toArray = ls at hl ⊢
  have hl : lv_has ls 6 [(0, .ref o_), (1, .int a0), (2, .int a1)] := hl
  unfold eX1_needed at hd
  refine lv_aload_n (pc := 0) hx hb dX1_needed_0 rfl (lv_at hl 0 rfl) ?_
  refine lv_iload_n (pc := 1) hx hb dX1_needed_1 rfl (lv_at hl 1 rfl) ?_
  obtain ⟨h1, hd⟩ := wt_ck_o hd
  obtain ⟨w2, hc3, hd⟩ := wt_bd_o hd
  refine kX1_run (pc := 2) hfl hx hb hml hown hts hC hW hS h1 hc3 hl.1 (Nat.le_of_ble_eq_true rfl) ⟨Nat.le_of_ble_eq_true rfl, Nat.le_of_ble_eq_true rfl⟩ ⟨(Nat.le_of_ble_eq_true rfl), (Nat.le_of_ble_eq_true rfl)⟩ q1003 dX1_needed_2 (fun x_ hx_ E_ ce_ q9_ H locs hXB hS hce hvn hfc => ?_) (fun o4 ho_ H locs hW hS => ?_)
  · have hd := wt_rs_r hx_ hd
    exact hx_out (fun z hz => (hno z hz).elim) hlocks hce hvn hfc (Option.some.inj hd) hXB hS (Nat.le_of_ble_eq_true rfl) (Nat.le_of_ble_eq_true rfl)
  · have hd := wt_rs_l ho_ hd
    refine lv_astore_n (pc := 5) (lv' := [(3, .ref o4.1), (0, .ref o_), (1, .int a0), (2, .int a1)]) hx hb dX1_needed_5 rfl hl (by decide) rfl (fun ls hl => ?_)
    refine lv_aload_n (pc := 6) hx hb dX1_needed_6 rfl (lv_at hl 0 rfl) ?_
    refine lv_iconst (pc := 7) (v := -1) hx hb dX1_needed_7 (by decide) ?_
    obtain ⟨h5, hd⟩ := wt_ck_o hd
    obtain ⟨w6, hc7, hd⟩ := wt_bd_o hd
    refine kX11_number (pc := 8) hx hb hml hown hts hC hW hS h5 hc7 hl.1 (Nat.le_of_ble_eq_true rfl) ⟨Nat.le_of_ble_eq_true rfl, Nat.le_of_ble_eq_true rfl⟩ ⟨(Nat.le_of_ble_eq_true rfl), (Nat.le_of_ble_eq_true rfl)⟩ q1275 dX1_needed_8 (fun H locs hW hS => ?_)
    obtain ⟨h8, hd⟩ := wt_ck_o hd
    obtain ⟨w9, hc10, hd⟩ := wt_bd_o hd
    refine kX14_isZero (pc := 11) hx hb hml hown hts hC hW hS h8 hc10 hl.1 (Nat.le_of_ble_eq_true rfl) ⟨Nat.le_of_ble_eq_true rfl, Nat.le_of_ble_eq_true rfl⟩ ⟨Nat.le_of_ble_eq_true rfl, Nat.le_of_ble_eq_true rfl⟩ q1349 dX1_needed_11 (fun H locs hW hS => ?_)
    refine lv_if_eq (pc := 14) (tgt := 19) hx hb dX1_needed_14 (by decide) (fun c11 => ?_) (fun c11 => ?_)
    · have hd := wt_it hd c11
      refine lv_iconst (pc := 19) (v := 0) hx hb dX1_needed_19 (by decide) ?_
      refine lv_istore (pc := 20) (lv' := [(4, .int (0 : Int32)), (3, .ref o4.1), (0, .ref o_), (1, .int a0), (2, .int a1)]) hx hb dX1_needed_20 hl (by decide) rfl (fun ls hl => ?_)
      refine lv_iconst (pc := 22) (v := 0) hx hb dX1_needed_22 (by decide) ?_
      refine lv_istore (pc := 23) (lv' := [(5, .int (0 : Int32)), (4, .int (0 : Int32)), (3, .ref o4.1), (0, .ref o_), (1, .int a0), (2, .int a1)]) hx hb dX1_needed_23 hl (by decide) rfl (fun ls hl => ?_)
      obtain ⟨w13, hL14, hq15⟩ := wt_bd_o hd
      have hX16 : ∀ w13_ : HP × Nat × Nat, (Sum.inl w13_ : (HP × Nat × Nat) ⊕ _) = w13 → ∀ (H : Heap) (locs : List Loc) (ls : Array Slot), Hw G A w13_.1 H → va_S A s_.heap H locs → lv_has ls 6 [] → W p_ l e_ (headSpec (ws_ yX1_needed cX1_needed 6 (some .int)) ({ frames := 9, cells := 900, slots := 34000, locals := 200 })).room s_ m_ ([.ref o_, .int a0, .int a1] : List Value).toArray below_ meth_ c_ H locs w13_.2.1 w13_.2.2 (vx_MQ below_ (hXi G A (fun r u => Sum.inl (r, u) = out_)) (hXX G A out_) ([.ref o_, .int a0, .int a1] : List Value).toArray s_ 900 34000 A) (F0 m_ 75 ls []) := by
        intro w13_ hw_
        have hd := wt_rs_l hw_ hq15
        clear hL14 hq15
        intro H locs ls hW hS hl
        refine lv_iconst (pc := 75) (v := -1) hx hb dX1_needed_75 (by decide) ?_
        obtain ⟨h47, hd⟩ := wt_ck_o hd
        refine vx_ret ?_
        exact hx_iret hx hb hr rfl hlocks (Option.some.inj hd) hW hS dX1_needed_76 (h47.1) (h47.2)
      have hI21 : ∀ (k20 : Nat) (v12 : Int32 × Int32 × HP × Nat × Nat), wt_wh (bX1_needed_1 o_ a1 o4) k20 v12 = some w13 → ∀ (H : Heap) (locs : List Loc) (ls : Array Slot), Hw G A v12.2.2.1 H → va_S A s_.heap H locs → lv_has ls 6 [(0, .ref o_), (2, .int a1), (3, .ref o4.1), (4, .int v12.1), (5, .int v12.2.1)] → W p_ l e_ (headSpec (ws_ yX1_needed cX1_needed 6 (some .int)) ({ frames := 9, cells := 900, slots := 34000, locals := 200 })).room s_ m_ ([.ref o_, .int a0, .int a1] : List Value).toArray below_ meth_ c_ H locs v12.2.2.2.1 v12.2.2.2.2 (vx_MQ below_ (hXi G A (fun r u => Sum.inl (r, u) = out_)) (hXX G A out_) ([.ref o_, .int a0, .int a1] : List Value).toArray s_ 900 34000 A) (F0 m_ 25 ls []) := by
        intro k20
        induction k20 with
        | zero => intro v12 hd; exact absurd hd wt_wh_z
        | succ k20 ih18 =>
          intro v12 hd
          intro H locs ls hW hS hl
          obtain ⟨r19, hd, hk17⟩ := wt_wh_o hd
          unfold bX1_needed_1 at hd
          refine lv_iload (pc := 25) hx hb dX1_needed_25 (lv_at hl 4 rfl) ?_
          refine lv_aload_n (pc := 27) hx hb dX1_needed_27 rfl (lv_at hl 2 rfl) ?_
          obtain ⟨ad22, h23, hd⟩ := wt_bd_o hd
          refine hr_getN (pc := 28) hx hb hts hown hK hT hW (hgA_o h23) hf_8_0 (fun _ h => h) q1030 dX1_needed_28 ?_
          obtain ⟨h24, hd⟩ := wt_ck_o hd
          obtain ⟨w25, hc26, hd⟩ := wt_bd_o hd
          obtain ⟨h27, hd⟩ := wt_ck_o hd
          refine kJ2_size (pc := 31) hx hb hml hown hts hC hW hS h24 hc26 hl.1 (Nat.le_of_ble_eq_true rfl) ⟨Nat.le_of_ble_eq_true rfl, Nat.le_of_ble_eq_true rfl⟩ ⟨h27.1, h27.2⟩ q666 dX1_needed_31 (fun H locs hW hS => ?_)
          refine lv_icmp_ge (pc := 34) (tgt := 75) hx hb dX1_needed_34 (by decide) (fun c28 => ?_) (fun c28 => ?_)
          · have hd := wt_it hd c28
            exact hX16 (v12.2.2.1, v12.2.2.2.1, v12.2.2.2.2) (wt_exit hd hk17) _ _ _ hW hS (lv_sub hl [] rfl)
          · have hd := wt_if hd c28
            refine lv_aload_n (pc := 37) hx hb dX1_needed_37 rfl (lv_at hl 0 rfl) ?_
            refine lv_aload_n (pc := 38) hx hb dX1_needed_38 rfl (lv_at hl 2 rfl) ?_
            refine lv_iload (pc := 39) hx hb dX1_needed_39 (lv_at hl 4 rfl) ?_
            obtain ⟨h29, hd⟩ := wt_ck_o hd
            obtain ⟨w30, hc31, hd⟩ := wt_bd_o hd
            obtain ⟨h32, hd⟩ := wt_ck_o hd
            refine kX1_without (pc := 41) hx hb hml hown hts hC hW hS h29 hc31 hl.1 (Nat.le_of_ble_eq_true rfl) ⟨Nat.le_of_ble_eq_true rfl, Nat.le_of_ble_eq_true rfl⟩ ⟨h32.1, h32.2⟩ q1385 dX1_needed_41 (fun H locs hW hS => ?_)
            refine lv_iconst (pc := 44) (v := -1) hx hb dX1_needed_44 (by decide) ?_
            obtain ⟨h33, hd⟩ := wt_ck_o hd
            obtain ⟨w34, hc35, hd⟩ := wt_bd_o hd
            obtain ⟨h36, hd⟩ := wt_ck_o hd
            refine kX11_number (pc := 45) hx hb hml hown hts hC hW hS h33 hc35 hl.1 (Nat.le_of_ble_eq_true rfl) ⟨Nat.le_of_ble_eq_true rfl, Nat.le_of_ble_eq_true rfl⟩ ⟨h36.1, h36.2⟩ q1275 dX1_needed_45 (fun H locs hW hS => ?_)
            obtain ⟨h37, hd⟩ := wt_ck_o hd
            obtain ⟨w38, hc39, hd⟩ := wt_bd_o hd
            obtain ⟨h40, hd⟩ := wt_ck_o hd
            refine kX14_isZero (pc := 48) hx hb hml hown hts hC hW hS h37 hc39 hl.1 (Nat.le_of_ble_eq_true rfl) ⟨Nat.le_of_ble_eq_true rfl, Nat.le_of_ble_eq_true rfl⟩ ⟨h40.1, h40.2⟩ q1349 dX1_needed_48 (fun H locs hW hS => ?_)
            refine lv_if_ne (pc := 51) (tgt := 57) hx hb dX1_needed_51 (by decide) (fun c41 => ?_) (fun c41 => ?_)
            · have hd := wt_if hd c41
              refine lv_iload (pc := 57) hx hb dX1_needed_57 (lv_at hl 3 rfl) ?_
              refine lv_iload_n (pc := 59) hx hb dX1_needed_59 rfl (lv_at hl 1 rfl) ?_
              refine lv_icmp_ne (pc := 60) (tgt := 66) hx hb dX1_needed_60 (by decide) (fun c42 => ?_) (fun c42 => ?_)
              · have hd := wt_if hd c42
                obtain ⟨n43, en43, hd⟩ := wt_lt_o hd
                refine lv_iinc (pc := 66) (k := 3) (v := n43) (lv' := [(4, .int n43), (0, .ref o_), (2, .int a1), (3, .ref o4.1), (5, .int v12.2.1)]) hx hb dX1_needed_66 hl rfl en43.symm (by decide) rfl (fun ls hl => ?_)
                obtain ⟨n44, en44, hd⟩ := wt_lt_o hd
                refine lv_iinc (pc := 69) (k := 4) (v := n44) (lv' := [(5, .int n44), (4, .int n43), (0, .ref o_), (2, .int a1), (3, .ref o4.1)]) hx hb dX1_needed_69 hl rfl en44.symm (by decide) rfl (fun ls hl => ?_)
                refine lv_goto (pc := 72) (tgt := 25) hx hb dX1_needed_72 (by decide) ?_
                exact ih18 _ (wt_again hd hk17) _ _ _ hW hS (lv_sub hl [2, 3, 4, 1, 0] rfl)
              · have hd := wt_it hd c42
                refine lv_iload (pc := 63) hx hb dX1_needed_63 (lv_at hl 4 rfl) ?_
                obtain ⟨h45, hd⟩ := wt_ck_o hd
                have hd := wt_rs_r (wt_exit hd hk17) hq15
                refine vx_ret ?_
                exact hx_iret hx hb hr rfl hlocks (Option.some.inj hd) hW hS dX1_needed_65 (h45.1) (h45.2)
            · have hd := wt_it hd c41
              refine lv_goto (pc := 54) (tgt := 69) hx hb dX1_needed_54 (by decide) ?_
              obtain ⟨n46, en46, hd⟩ := wt_lt_o hd
              refine lv_iinc (pc := 69) (k := 4) (v := n46) (lv' := [(5, .int n46), (0, .ref o_), (2, .int a1), (3, .ref o4.1), (4, .int v12.1)]) hx hb dX1_needed_69 hl rfl en46.symm (by decide) rfl (fun ls hl => ?_)
              refine lv_goto (pc := 72) (tgt := 25) hx hb dX1_needed_72 (by decide) ?_
              exact ih18 _ (wt_again hd hk17) _ _ _ hW hS (lv_sub hl [1, 2, 3, 4, 0] rfl)
      obtain ⟨k20, hL14⟩ := wt_whC_o hL14
      exact hI21 k20 _ hL14 _ _ _ hW hS (lv_sub hl [3, 5, 2, 1, 0] rfl)
    · have hd := wt_if hd c11
      refine lv_iconst (pc := 17) (v := -1) hx hb dX1_needed_17 (by decide) ?_
      refine vx_ret ?_
      exact hx_iret hx hb hr rfl hlocks (Option.some.inj hd) hW hS dX1_needed_18 (Nat.le_of_ble_eq_true rfl) (Nat.le_of_ble_eq_true rfl)
theorem kX1_needed {p : Program} {l : Launch} {e : Env} {R : Room} {s : State} {m : MethodId} {args : Array Value} {below : List Frame} {meth : Method} {c : Code} {H : Heap} {locs : List Loc} {cells slots : Nat} {Q : State → Prop} {cc : ByteArray} {pc : Nat} {ls : Array Slot} {rest : List Value} {nL : Nat} {own : String} {index : Nat} {G : HG} {A : Nat → Prop} {τ : HP} {o_ : Nat} {a0 : Int32} {a1 : Int32} {out_ : (Int32 × HP) ⊕ (Nat × Nat × HP)} (hfl : l.stackTraces = false) (hx : p.tables.exec = Jvm.exec) (hb : c.code = cc) (hml : c.maxLocals = nL) (hown : s.vm.findClass own = some m.cls) (hts : ∀ w ∈ lw_all, w.before args s = true) (hC : Hcx G A s) (hW : Hw G A τ H) (hS : va_S A s.heap H locs) (hrc : hcl τ o_ = some 0) (hd : eX1_needed τ o_ a0 a1 = some out_) (hsz : ls.size = nL) (hrm : (rest.map fun v => v.category).sum ≤ 8) (hR : 10 ≤ R.frames ∧ 225 ≤ R.locals) (hcs : (cells + 900) ≤ R.cells ∧ (slots + 34000) ≤ R.slots) (hlk : Cond.methodLink own index yX1_needed ∈ lw_all) (hdg : decode cc pc = .ok (.invokevirtual index, 3)) (kx : ∀ x_ : Nat × Nat × HP, Sum.inr x_ = out_ → ∀ (E : String) (ce : Cell) (q9 : Addr) (H1 : Heap) (locs1 : List Loc), hXb G A E q9 x_ H1 → va_S A s.heap H1 locs1 → H1[q9]? = some ce → ce.vm = .none → s.vm.findClass E = some ce.cls → vx_W p l e R s m args below meth c H1 locs1 (cells + 900) (slots + 34000) Q (F0 m pc ls rest) q9) (kk : ∀ o_1 : Int32 × HP, Sum.inl o_1 = out_ → ∀ (H1 : Heap) (locs1 : List Loc), Hw G A o_1.2 H1 → va_S A s.heap H1 locs1 → W p l e R s m args below meth c H1 locs1 (cells + 900) (slots + 34000) Q (F0 m (pc + 3) ls (.int o_1.1 :: rest))) : W p l e R s m args below meth c H locs cells slots Q (F0 m pc ls (.int a1 :: .int a0 :: .ref o_ :: rest)) := by
  refine vx_calli (vx_runV (As := [.int a0, .int a1]) (rest := rest) ⟨hx, hb, hml, hown, hts⟩ (wX1_needed l hfl hd) (cwV 2 hts (lw_V hlk q1393 q1394 q66 q1395) rfl rfl rfl (by decide +kernel) hR) (hr_preV hC hW hS hrc rfl rfl) rfl rfl hsz rfl (lv_room hrm) hdg hcs) hS (fun _ _ h => h) (fun _ h => h) (fun _ _ h => h) (fun E ce q9 u t H1 locs1 ht hvm hp hB hz hk hS1 hce hvn hfc => ?_) (fun r u t H1 locs1 ht hvm hp hB hz hk hS1 => ?_)
  · rw [ht] at hB
    exact kx u hp E ce q9 H1 locs1 hB hS1 hce hvn hfc
  · have hW1 : Hw G A u t.heap := hB
    rw [ht] at hW1
    exact kk (r, u) hp H1 locs1 hW1 hS1
noncomputable def eX1_byWay (τ : HP) (o_ : Nat) (a0 : Int32) (a1 : Int32) (a2 : Int32) (a3 : Int32) (a4 : Int32) (a5 : Int32) : Option ((Int32 × HP) ⊕ (Nat × Nat × HP)) :=
  wt_ck (hcl τ o_ = some 0) <| wt_bd (eX1_run τ o_ a0) fun w2 => wt_rs w2 (fun o4 => wt_bd (eX1_isPlace a1) fun w5 => wt_bd (if w5 = 0 then (some (.inl ())) else (wt_bd (eX1_isPlace a2) fun w12 => if w12 = 0 then (some (.inl ())) else (wt_bd (eX1_isPlace a3) fun w15 => if w15 = 0 then (some (.inl ())) else (if a1 = a2 then (some (.inl ())) else (if a1 = a3 then (some (.inl ())) else (if a2 = a3 then (some (.inl ())) else (wt_bd (eX1_isSort a4) fun w21 => if w21 = 0 then (some (.inl ())) else (wt_bd (eX1_isHour a5) fun w24 => if w24 = 0 then (some (.inl ())) else (wt_bd (eX1_need o4.2 (1 : Int32)) fun w27 => wt_rs w27 (fun o29 => wt_bd (hp o4.2 o4.1 [8] 3 (.int a1)) fun τ30 => wt_bd (hp τ30 o4.1 [8] 4 (.int a2)) fun τ32 => wt_bd (hp τ32 o4.1 [8] 5 (.int a3)) fun τ34 => wt_ck (hcl τ34 o4.1 = some 8) <| wt_bd (eX11_at τ34 o4.1 a5) fun w37 => wt_bd (hgA w37.2 w37.1 [9] 1) fun ad39 => wt_bd (haI w37.2 ad39 0) fun z41 => wt_ck (vp_in (((10 : Int32) * a2) + a4) z41.1) <| some (.inr (.inl ((z41.2 (((10 : Int32) * a2) + a4).toNatClampNeg), w37.2)))) (fun x_ => some (.inr (.inr x_)))))))))))) fun w7 => wt_rs w7 (fun w7 => wt_bd (eX1_need o4.2 (0 : Int32)) fun w44 => wt_rs w44 (fun o46 => wt_bd (hp o4.2 o4.1 [8] 3 (.int a1)) fun τ47 => wt_bd (hp τ47 o4.1 [8] 4 (.int a2)) fun τ49 => wt_bd (hp τ49 o4.1 [8] 5 (.int a3)) fun τ51 => wt_ck (hcl τ51 o4.1 = some 8) <| wt_bd (eX11_at τ51 o4.1 a5) fun w54 => wt_bd (hgA w54.2 w54.1 [9] 1) fun ad56 => wt_bd (haI w54.2 ad56 0) fun z58 => wt_ck (vp_in (((10 : Int32) * a2) + a4) z58.1) <| some (.inl ((z58.2 (((10 : Int32) * a2) + a4).toNatClampNeg), w54.2))) (fun x_ => some (.inr x_))) (fun z_ => some z_)) (fun x_ => some (.inr x_))
set_option maxHeartbeats 4000000 in
theorem wX1_byWay (l : Launch) (hfl : l.stackTraces = false) {G : HG} {A : Nat → Prop} {τ : HP} {o_ : Nat} {a0 : Int32} {a1 : Int32} {a2 : Int32} {a3 : Int32} {a4 : Int32} {a5 : Int32} {out_ : (Int32 × HP) ⊕ (Nat × Nat × HP)} (hd : eX1_byWay τ o_ a0 a1 a2 a3 a4 a5 = some out_) : vx_Met l yX1_byWay (ws_ yX1_byWay cX1_byWay 8 (some .int)) ({ frames := 7, cells := 5, slots := 126, locals := 132 }) (hPc G A τ [.ref o_, .int a0, .int a1, .int a2, .int a3, .int a4, .int a5]) (hXi G A (fun r u => Sum.inl (r, u) = out_)) (hXX G A out_) 5 126 A := by
  refine vx_ofW (cc := cX1_byWay) (maxL := 8) (ret := (some .int)) (by decide) rfl ?_
  intro p_ e_ s_ m_ args_ below_ meth_ c_ s₁_ B hml hno hv
  obtain ⟨rfl, hW, hC⟩ := hv
  have hx := B.exec
  have hb := B.bytes
  have hr := B.returns
  have hts := atoms_spec (ws := (ws_ yX1_byWay cX1_byWay 8 (some .int))) B.pre
  have hts : ∀ w ∈ lw_all, w.before _ s_ = true := fun w h => hts w (List.mem_cons_of_mem _ h)
  have hown : s_.vm.findClass RX1 = some m_.cls := findClass_of_methodNamed B.named
  have hlocks := B.notSynchronized
  have hK := hC.1
  have hT := hC.2.1
  have hL := hC.2.2.1
  have hZ := hC.2.2.2.2.1
  have hA := hC.2.2.2.2.2
  have hS : va_S A s_.heap s_.heap [] := va_S.rf
  have hl := lv_entry ([.ref o_, .int a0, .int a1, .int a2, .int a3, .int a4, .int a5]) (n := 8) (Nat.le_of_ble_eq_true rfl)
  rw [lg_entry_eq]
  generalize (lg_sl ([.ref o_, .int a0, .int a1, .int a2, .int a3, .int a4, .int a5]) ++ List.replicate (8 - (lg_sl ([.ref o_, .int a0, .int a1, .int a2, .int a3, .int a4, .int a5])).length) Slot.unset).toArray = ls at hl ⊢
  have hl : lv_has ls 8 [(0, .ref o_), (1, .int a0), (2, .int a1), (3, .int a2), (4, .int a3), (5, .int a4), (6, .int a5)] := hl
  unfold eX1_byWay at hd
  refine lv_aload_n (pc := 0) hx hb dX1_byWay_0 rfl (lv_at hl 0 rfl) ?_
  refine lv_iload_n (pc := 1) hx hb dX1_byWay_1 rfl (lv_at hl 1 rfl) ?_
  obtain ⟨h1, hd⟩ := wt_ck_o hd
  obtain ⟨w2, hc3, hd⟩ := wt_bd_o hd
  refine kX1_run (pc := 2) hfl hx hb hml hown hts hC hW hS h1 hc3 hl.1 (Nat.le_of_ble_eq_true rfl) ⟨Nat.le_of_ble_eq_true rfl, Nat.le_of_ble_eq_true rfl⟩ ⟨(Nat.le_of_ble_eq_true rfl), (Nat.le_of_ble_eq_true rfl)⟩ q1003 dX1_byWay_2 (fun x_ hx_ E_ ce_ q9_ H locs hXB hS hce hvn hfc => ?_) (fun o4 ho_ H locs hW hS => ?_)
  · have hd := wt_rs_r hx_ hd
    exact hx_out (fun z hz => (hno z hz).elim) hlocks hce hvn hfc (Option.some.inj hd) hXB hS (Nat.le_of_ble_eq_true rfl) (Nat.le_of_ble_eq_true rfl)
  · have hd := wt_rs_l ho_ hd
    refine lv_astore (pc := 5) (lv' := [(7, .ref o4.1), (0, .ref o_), (1, .int a0), (2, .int a1), (3, .int a2), (4, .int a3), (5, .int a4), (6, .int a5)]) hx hb dX1_byWay_5 hl (by decide) rfl (fun ls hl => ?_)
    refine lv_iload_n (pc := 7) hx hb dX1_byWay_7 rfl (lv_at hl 3 rfl) ?_
    obtain ⟨w5, hc6, hd⟩ := wt_bd_o hd
    refine kX1_isPlace (pc := 8) hx hb hml hown hts hC hW hS hc6 hl.1 (Nat.le_of_ble_eq_true rfl) ⟨Nat.le_of_ble_eq_true rfl, Nat.le_of_ble_eq_true rfl⟩ ⟨Nat.le_of_ble_eq_true rfl, Nat.le_of_ble_eq_true rfl⟩ q1057 dX1_byWay_8 (fun H locs hW hS => ?_)
    obtain ⟨w7, hj8, hq9⟩ := wt_bd_o hd
    have hX10 : ∀ w7_ : Unit, (Sum.inl w7_ : (Unit) ⊕ _) = w7 → ∀ (H : Heap) (locs : List Loc) (ls : Array Slot), Hw G A o4.2 H → va_S A s_.heap H locs → lv_has ls 8 [(2, .int a1), (3, .int a2), (4, .int a3), (5, .int a4), (6, .int a5), (7, .ref o4.1)] → W p_ l e_ (headSpec (ws_ yX1_byWay cX1_byWay 8 (some .int)) ({ frames := 7, cells := 5, slots := 126, locals := 132 })).room s_ m_ ([.ref o_, .int a0, .int a1, .int a2, .int a3, .int a4, .int a5] : List Value).toArray below_ meth_ c_ H locs 1 7 (vx_MQ below_ (hXi G A (fun r u => Sum.inl (r, u) = out_)) (hXX G A out_) ([.ref o_, .int a0, .int a1, .int a2, .int a3, .int a4, .int a5] : List Value).toArray s_ 5 126 A) (F0 m_ 66 ls []) := by
      intro w7_ hw_
      have hd := wt_rs_l hw_ hq9
      clear hj8 hq9
      intro H locs ls hW hS hl
      refine lv_iconst (pc := 66) (v := 0) hx hb dX1_byWay_66 (by decide) ?_
      obtain ⟨w44, hc45, hd⟩ := wt_bd_o hd
      refine kX1_need (pc := 67) hfl hx hb hml hown hts hC hW hS hc45 hl.1 (Nat.le_of_ble_eq_true rfl) ⟨Nat.le_of_ble_eq_true rfl, Nat.le_of_ble_eq_true rfl⟩ ⟨(Nat.le_of_ble_eq_true rfl), (Nat.le_of_ble_eq_true rfl)⟩ q676 dX1_byWay_67 (fun x_ hx_ E_ ce_ q9_ H locs hXB hS hce hvn hfc => ?_) (fun o46 ho_ H locs hW hS => ?_)
      · have hd := wt_rs_r hx_ hd
        exact hx_out (fun z hz => (hno z hz).elim) hlocks hce hvn hfc (Option.some.inj hd) hXB hS (Nat.le_of_ble_eq_true rfl) (Nat.le_of_ble_eq_true rfl)
      · have hd := wt_rs_l ho_ hd
        refine lv_aload (pc := 70) hx hb dX1_byWay_70 (lv_at hl 5 rfl) ?_
        refine lv_iload_n (pc := 72) hx hb dX1_byWay_72 rfl (lv_at hl 0 rfl) ?_
        obtain ⟨τ47, h48, hd⟩ := wt_bd_o hd
        refine hr_putN (pc := 73) (ty := .int) hx hb hts hown hK hT hW hS h48 hf_8_3 (by decide +kernel) rfl rfl (fun _ h => h) q1036 dX1_byWay_73 (fun H locs hW hS => ?_)
        refine lv_aload (pc := 76) hx hb dX1_byWay_76 (lv_at hl 5 rfl) ?_
        refine lv_iload_n (pc := 78) hx hb dX1_byWay_78 rfl (lv_at hl 1 rfl) ?_
        obtain ⟨τ49, h50, hd⟩ := wt_bd_o hd
        refine hr_putN (pc := 79) (ty := .int) hx hb hts hown hK hT hW hS h50 hf_8_4 (by decide +kernel) rfl rfl (fun _ h => h) q1038 dX1_byWay_79 (fun H locs hW hS => ?_)
        refine lv_aload (pc := 82) hx hb dX1_byWay_82 (lv_at hl 5 rfl) ?_
        refine lv_iload (pc := 84) hx hb dX1_byWay_84 (lv_at hl 2 rfl) ?_
        obtain ⟨τ51, h52, hd⟩ := wt_bd_o hd
        refine hr_putN (pc := 86) (ty := .int) hx hb hts hown hK hT hW hS h52 hf_8_5 (by decide +kernel) rfl rfl (fun _ h => h) q1040 dX1_byWay_86 (fun H locs hW hS => ?_)
        refine lv_aload (pc := 89) hx hb dX1_byWay_89 (lv_at hl 5 rfl) ?_
        refine lv_iload (pc := 91) hx hb dX1_byWay_91 (lv_at hl 4 rfl) ?_
        obtain ⟨h53, hd⟩ := wt_ck_o hd
        obtain ⟨w54, hc55, hd⟩ := wt_bd_o hd
        refine kX11_at (pc := 93) hx hb hml hown hts hC hW hS h53 hc55 hl.1 (Nat.le_of_ble_eq_true rfl) ⟨Nat.le_of_ble_eq_true rfl, Nat.le_of_ble_eq_true rfl⟩ ⟨(Nat.le_of_ble_eq_true rfl), (Nat.le_of_ble_eq_true rfl)⟩ q1063 dX1_byWay_93 (fun H locs hW hS => ?_)
        obtain ⟨ad56, h57, hd⟩ := wt_bd_o hd
        refine hr_getN (pc := 96) hx hb hts hown hK hT hW (hgA_o h57) hf_9_1 (fun _ h => h) q1080 dX1_byWay_96 ?_
        refine lv_bipush (pc := 99) (v := 10) hx hb dX1_byWay_99 (by decide) ?_
        refine lv_iload_n (pc := 101) hx hb dX1_byWay_101 rfl (lv_at hl 1 rfl) ?_
        refine lv_imul (pc := 102) hx hb dX1_byWay_102 ?_
        refine lv_iload (pc := 103) hx hb dX1_byWay_103 (lv_at hl 3 rfl) ?_
        refine lv_iadd (pc := 105) hx hb dX1_byWay_105 ?_
        obtain ⟨z58, h59, hd⟩ := wt_bd_o hd
        obtain ⟨h60, hd⟩ := wt_ck_o hd
        refine hr_iald (pc := 106) hx hb hK hW h59 h60 dX1_byWay_106 ?_
        refine vx_ret ?_
        exact hx_iret hx hb hr rfl hlocks (Option.some.inj hd) hW hS dX1_byWay_107 (Nat.le_of_ble_eq_true rfl) (Nat.le_of_ble_eq_true rfl)
    have hd := hj8
    refine lv_if_eq (pc := 11) (tgt := 66) hx hb dX1_byWay_11 (by decide) (fun c11 => ?_) (fun c11 => ?_)
    · have hd := wt_it hd c11
      exact hX10 () (Option.some.inj hd) _ _ _ hW hS (lv_sub hl [3, 4, 5, 6, 7, 0] rfl)
    · have hd := wt_if hd c11
      refine lv_iload_n (pc := 14) hx hb dX1_byWay_14 rfl (lv_at hl 4 rfl) ?_
      obtain ⟨w12, hc13, hd⟩ := wt_bd_o hd
      refine kX1_isPlace (pc := 15) hx hb hml hown hts hC hW hS hc13 hl.1 (Nat.le_of_ble_eq_true rfl) ⟨Nat.le_of_ble_eq_true rfl, Nat.le_of_ble_eq_true rfl⟩ ⟨Nat.le_of_ble_eq_true rfl, Nat.le_of_ble_eq_true rfl⟩ q1057 dX1_byWay_15 (fun H locs hW hS => ?_)
      refine lv_if_eq (pc := 18) (tgt := 66) hx hb dX1_byWay_18 (by decide) (fun c14 => ?_) (fun c14 => ?_)
      · have hd := wt_it hd c14
        exact hX10 () (Option.some.inj hd) _ _ _ hW hS (lv_sub hl [3, 4, 5, 6, 7, 0] rfl)
      · have hd := wt_if hd c14
        refine lv_iload (pc := 21) hx hb dX1_byWay_21 (lv_at hl 5 rfl) ?_
        obtain ⟨w15, hc16, hd⟩ := wt_bd_o hd
        refine kX1_isPlace (pc := 23) hx hb hml hown hts hC hW hS hc16 hl.1 (Nat.le_of_ble_eq_true rfl) ⟨Nat.le_of_ble_eq_true rfl, Nat.le_of_ble_eq_true rfl⟩ ⟨Nat.le_of_ble_eq_true rfl, Nat.le_of_ble_eq_true rfl⟩ q1057 dX1_byWay_23 (fun H locs hW hS => ?_)
        refine lv_if_eq (pc := 26) (tgt := 66) hx hb dX1_byWay_26 (by decide) (fun c17 => ?_) (fun c17 => ?_)
        · have hd := wt_it hd c17
          exact hX10 () (Option.some.inj hd) _ _ _ hW hS (lv_sub hl [3, 4, 5, 6, 7, 0] rfl)
        · have hd := wt_if hd c17
          refine lv_iload_n (pc := 29) hx hb dX1_byWay_29 rfl (lv_at hl 3 rfl) ?_
          refine lv_iload_n (pc := 30) hx hb dX1_byWay_30 rfl (lv_at hl 4 rfl) ?_
          refine lv_icmp_eq (pc := 31) (tgt := 66) hx hb dX1_byWay_31 (by decide) (fun c18 => ?_) (fun c18 => ?_)
          · have hd := wt_it hd c18
            exact hX10 () (Option.some.inj hd) _ _ _ hW hS (lv_sub hl [3, 4, 5, 6, 7, 0] rfl)
          · have hd := wt_if hd c18
            refine lv_iload_n (pc := 34) hx hb dX1_byWay_34 rfl (lv_at hl 3 rfl) ?_
            refine lv_iload (pc := 35) hx hb dX1_byWay_35 (lv_at hl 5 rfl) ?_
            refine lv_icmp_eq (pc := 37) (tgt := 66) hx hb dX1_byWay_37 (by decide) (fun c19 => ?_) (fun c19 => ?_)
            · have hd := wt_it hd c19
              exact hX10 () (Option.some.inj hd) _ _ _ hW hS (lv_sub hl [3, 4, 5, 6, 7, 0] rfl)
            · have hd := wt_if hd c19
              refine lv_iload_n (pc := 40) hx hb dX1_byWay_40 rfl (lv_at hl 4 rfl) ?_
              refine lv_iload (pc := 41) hx hb dX1_byWay_41 (lv_at hl 5 rfl) ?_
              refine lv_icmp_eq (pc := 43) (tgt := 66) hx hb dX1_byWay_43 (by decide) (fun c20 => ?_) (fun c20 => ?_)
              · have hd := wt_it hd c20
                exact hX10 () (Option.some.inj hd) _ _ _ hW hS (lv_sub hl [3, 4, 5, 6, 7, 0] rfl)
              · have hd := wt_if hd c20
                refine lv_iload (pc := 46) hx hb dX1_byWay_46 (lv_at hl 6 rfl) ?_
                obtain ⟨w21, hc22, hd⟩ := wt_bd_o hd
                refine kX1_isSort (pc := 48) hx hb hml hown hts hC hW hS hc22 hl.1 (Nat.le_of_ble_eq_true rfl) ⟨Nat.le_of_ble_eq_true rfl, Nat.le_of_ble_eq_true rfl⟩ ⟨Nat.le_of_ble_eq_true rfl, Nat.le_of_ble_eq_true rfl⟩ q978 dX1_byWay_48 (fun H locs hW hS => ?_)
                refine lv_if_eq (pc := 51) (tgt := 66) hx hb dX1_byWay_51 (by decide) (fun c23 => ?_) (fun c23 => ?_)
                · have hd := wt_it hd c23
                  exact hX10 () (Option.some.inj hd) _ _ _ hW hS (lv_sub hl [3, 4, 5, 6, 7, 0] rfl)
                · have hd := wt_if hd c23
                  refine lv_iload (pc := 54) hx hb dX1_byWay_54 (lv_at hl 7 rfl) ?_
                  obtain ⟨w24, hc25, hd⟩ := wt_bd_o hd
                  refine kX1_isHour (pc := 56) hx hb hml hown hts hC hW hS hc25 hl.1 (Nat.le_of_ble_eq_true rfl) ⟨Nat.le_of_ble_eq_true rfl, Nat.le_of_ble_eq_true rfl⟩ ⟨Nat.le_of_ble_eq_true rfl, Nat.le_of_ble_eq_true rfl⟩ q1060 dX1_byWay_56 (fun H locs hW hS => ?_)
                  refine lv_if_eq (pc := 59) (tgt := 66) hx hb dX1_byWay_59 (by decide) (fun c26 => ?_) (fun c26 => ?_)
                  · have hd := wt_it hd c26
                    exact hX10 () (Option.some.inj hd) _ _ _ hW hS (lv_sub hl [3, 4, 5, 6, 7, 0] rfl)
                  · have hd := wt_if hd c26
                    refine lv_iconst (pc := 62) (v := 1) hx hb dX1_byWay_62 (by decide) ?_
                    refine lv_goto (pc := 63) (tgt := 67) hx hb dX1_byWay_63 (by decide) ?_
                    obtain ⟨w27, hc28, hd⟩ := wt_bd_o hd
                    refine kX1_need (pc := 67) hfl hx hb hml hown hts hC hW hS hc28 hl.1 (Nat.le_of_ble_eq_true rfl) ⟨Nat.le_of_ble_eq_true rfl, Nat.le_of_ble_eq_true rfl⟩ ⟨(Nat.le_of_ble_eq_true rfl), (Nat.le_of_ble_eq_true rfl)⟩ q676 dX1_byWay_67 (fun x_ hx_ E_ ce_ q9_ H locs hXB hS hce hvn hfc => ?_) (fun o29 ho_ H locs hW hS => ?_)
                    · have hd := wt_rs_r hx_ hd
                      have hd := wt_rs_r (Option.some.inj hd) hq9
                      exact hx_out (fun z hz => (hno z hz).elim) hlocks hce hvn hfc (Option.some.inj hd) hXB hS (Nat.le_of_ble_eq_true rfl) (Nat.le_of_ble_eq_true rfl)
                    · have hd := wt_rs_l ho_ hd
                      refine lv_aload (pc := 70) hx hb dX1_byWay_70 (lv_at hl 0 rfl) ?_
                      refine lv_iload_n (pc := 72) hx hb dX1_byWay_72 rfl (lv_at hl 3 rfl) ?_
                      obtain ⟨τ30, h31, hd⟩ := wt_bd_o hd
                      refine hr_putN (pc := 73) (ty := .int) hx hb hts hown hK hT hW hS h31 hf_8_3 (by decide +kernel) rfl rfl (fun _ h => h) q1036 dX1_byWay_73 (fun H locs hW hS => ?_)
                      refine lv_aload (pc := 76) hx hb dX1_byWay_76 (lv_at hl 0 rfl) ?_
                      refine lv_iload_n (pc := 78) hx hb dX1_byWay_78 rfl (lv_at hl 4 rfl) ?_
                      obtain ⟨τ32, h33, hd⟩ := wt_bd_o hd
                      refine hr_putN (pc := 79) (ty := .int) hx hb hts hown hK hT hW hS h33 hf_8_4 (by decide +kernel) rfl rfl (fun _ h => h) q1038 dX1_byWay_79 (fun H locs hW hS => ?_)
                      refine lv_aload (pc := 82) hx hb dX1_byWay_82 (lv_at hl 0 rfl) ?_
                      refine lv_iload (pc := 84) hx hb dX1_byWay_84 (lv_at hl 5 rfl) ?_
                      obtain ⟨τ34, h35, hd⟩ := wt_bd_o hd
                      refine hr_putN (pc := 86) (ty := .int) hx hb hts hown hK hT hW hS h35 hf_8_5 (by decide +kernel) rfl rfl (fun _ h => h) q1040 dX1_byWay_86 (fun H locs hW hS => ?_)
                      refine lv_aload (pc := 89) hx hb dX1_byWay_89 (lv_at hl 0 rfl) ?_
                      refine lv_iload (pc := 91) hx hb dX1_byWay_91 (lv_at hl 7 rfl) ?_
                      obtain ⟨h36, hd⟩ := wt_ck_o hd
                      obtain ⟨w37, hc38, hd⟩ := wt_bd_o hd
                      refine kX11_at (pc := 93) hx hb hml hown hts hC hW hS h36 hc38 hl.1 (Nat.le_of_ble_eq_true rfl) ⟨Nat.le_of_ble_eq_true rfl, Nat.le_of_ble_eq_true rfl⟩ ⟨(Nat.le_of_ble_eq_true rfl), (Nat.le_of_ble_eq_true rfl)⟩ q1063 dX1_byWay_93 (fun H locs hW hS => ?_)
                      obtain ⟨ad39, h40, hd⟩ := wt_bd_o hd
                      refine hr_getN (pc := 96) hx hb hts hown hK hT hW (hgA_o h40) hf_9_1 (fun _ h => h) q1080 dX1_byWay_96 ?_
                      refine lv_bipush (pc := 99) (v := 10) hx hb dX1_byWay_99 (by decide) ?_
                      refine lv_iload_n (pc := 101) hx hb dX1_byWay_101 rfl (lv_at hl 4 rfl) ?_
                      refine lv_imul (pc := 102) hx hb dX1_byWay_102 ?_
                      refine lv_iload (pc := 103) hx hb dX1_byWay_103 (lv_at hl 6 rfl) ?_
                      refine lv_iadd (pc := 105) hx hb dX1_byWay_105 ?_
                      obtain ⟨z41, h42, hd⟩ := wt_bd_o hd
                      obtain ⟨h43, hd⟩ := wt_ck_o hd
                      refine hr_iald (pc := 106) hx hb hK hW h42 h43 dX1_byWay_106 ?_
                      have hd := wt_rs_r (Option.some.inj hd) hq9
                      refine vx_ret ?_
                      exact hx_iret hx hb hr rfl hlocks (Option.some.inj hd) hW hS dX1_byWay_107 (Nat.le_of_ble_eq_true rfl) (Nat.le_of_ble_eq_true rfl)
theorem kX1_byWay {p : Program} {l : Launch} {e : Env} {R : Room} {s : State} {m : MethodId} {args : Array Value} {below : List Frame} {meth : Method} {c : Code} {H : Heap} {locs : List Loc} {cells slots : Nat} {Q : State → Prop} {cc : ByteArray} {pc : Nat} {ls : Array Slot} {rest : List Value} {nL : Nat} {own : String} {index : Nat} {G : HG} {A : Nat → Prop} {τ : HP} {o_ : Nat} {a0 : Int32} {a1 : Int32} {a2 : Int32} {a3 : Int32} {a4 : Int32} {a5 : Int32} {out_ : (Int32 × HP) ⊕ (Nat × Nat × HP)} (hfl : l.stackTraces = false) (hx : p.tables.exec = Jvm.exec) (hb : c.code = cc) (hml : c.maxLocals = nL) (hown : s.vm.findClass own = some m.cls) (hts : ∀ w ∈ lw_all, w.before args s = true) (hC : Hcx G A s) (hW : Hw G A τ H) (hS : va_S A s.heap H locs) (hrc : hcl τ o_ = some 0) (hd : eX1_byWay τ o_ a0 a1 a2 a3 a4 a5 = some out_) (hsz : ls.size = nL) (hrm : (rest.map fun v => v.category).sum ≤ 8) (hR : 8 ≤ R.frames ∧ 159 ≤ R.locals) (hcs : (cells + 5) ≤ R.cells ∧ (slots + 126) ≤ R.slots) (hlk : Cond.methodLink own index yX1_byWay ∈ lw_all) (hdg : decode cc pc = .ok (.invokevirtual index, 3)) (kx : ∀ x_ : Nat × Nat × HP, Sum.inr x_ = out_ → ∀ (E : String) (ce : Cell) (q9 : Addr) (H1 : Heap) (locs1 : List Loc), hXb G A E q9 x_ H1 → va_S A s.heap H1 locs1 → H1[q9]? = some ce → ce.vm = .none → s.vm.findClass E = some ce.cls → vx_W p l e R s m args below meth c H1 locs1 (cells + 5) (slots + 126) Q (F0 m pc ls rest) q9) (kk : ∀ o_1 : Int32 × HP, Sum.inl o_1 = out_ → ∀ (H1 : Heap) (locs1 : List Loc), Hw G A o_1.2 H1 → va_S A s.heap H1 locs1 → W p l e R s m args below meth c H1 locs1 (cells + 5) (slots + 126) Q (F0 m (pc + 3) ls (.int o_1.1 :: rest))) : W p l e R s m args below meth c H locs cells slots Q (F0 m pc ls (.int a5 :: .int a4 :: .int a3 :: .int a2 :: .int a1 :: .int a0 :: .ref o_ :: rest)) := by
  refine vx_calli (vx_runV (As := [.int a0, .int a1, .int a2, .int a3, .int a4, .int a5]) (rest := rest) ⟨hx, hb, hml, hown, hts⟩ (wX1_byWay l hfl hd) (cwV 6 hts (lw_V hlk q1400 q1401 q66 q1402) rfl rfl rfl (by decide +kernel) hR) (hr_preV hC hW hS hrc rfl rfl) rfl rfl hsz rfl (lv_room hrm) hdg hcs) hS (fun _ _ h => h) (fun _ h => h) (fun _ _ h => h) (fun E ce q9 u t H1 locs1 ht hvm hp hB hz hk hS1 hce hvn hfc => ?_) (fun r u t H1 locs1 ht hvm hp hB hz hk hS1 => ?_)
  · rw [ht] at hB
    exact kx u hp E ce q9 H1 locs1 hB hS1 hce hvn hfc
  · have hW1 : Hw G A u t.heap := hB
    rw [ht] at hW1
    exact kk (r, u) hp H1 locs1 hW1 hS1
noncomputable def eX1_bench (τ : HP) (o_ : Nat) (a0 : Int32) (a1 : Int32) (a2 : Int32) (a3 : Int32) : Option ((Int32 × HP) ⊕ (Nat × Nat × HP)) :=
  wt_ck (hcl τ o_ = some 0) <| wt_bd (eX1_run τ o_ a0) fun w2 => wt_rs w2 (fun o4 => wt_bd (eX1_isPlace a1) fun w5 => wt_bd (if w5 = 0 then (some (.inl ())) else (wt_bd (eX1_isPlace a2) fun w12 => if w12 = 0 then (some (.inl ())) else (if a1 = a2 then (some (.inl ())) else (wt_bd (eX1_isHour a3) fun w16 => if w16 = 0 then (some (.inl ())) else (wt_bd (eX1_need o4.2 (1 : Int32)) fun w19 => wt_rs w19 (fun o21 => wt_lt (hnew o4.2 (.inr (8, [.null, .int 0, .null, .int 0, .int 0, .int 0, .null]))) fun τ22 => wt_bd (hgA τ22 o4.1 [8] 0) fun ad23 => wt_bd (eX11_init τ22 o4.2.2 o_ ad23) fun w25 => wt_lt (hnew w25 (.inr (6, [.int 0, .int 0, .int 0]))) fun τ27 => wt_bd (eX9_init τ27 w25.2 a1 a2 a3) fun w28 => wt_bd (hp w28 o4.2.2 [8] 2 (.ref w25.2)) fun τ30 => wt_bd (eX1_worthOf τ30 o4.2.2 o4.1 (-1 : Int32)) fun w32 => some (.inr (.inl (w32.1, w32.2)))) (fun x_ => some (.inr (.inr x_)))))))) fun w7 => wt_rs w7 (fun w7 => wt_bd (eX1_need o4.2 (0 : Int32)) fun w34 => wt_rs w34 (fun o36 => wt_lt (hnew o4.2 (.inr (8, [.null, .int 0, .null, .int 0, .int 0, .int 0, .null]))) fun τ37 => wt_bd (hgA τ37 o4.1 [8] 0) fun ad38 => wt_bd (eX11_init τ37 o4.2.2 o_ ad38) fun w40 => wt_lt (hnew w40 (.inr (6, [.int 0, .int 0, .int 0]))) fun τ42 => wt_bd (eX9_init τ42 w40.2 a1 a2 a3) fun w43 => wt_bd (hp w43 o4.2.2 [8] 2 (.ref w40.2)) fun τ45 => wt_bd (eX1_worthOf τ45 o4.2.2 o4.1 (-1 : Int32)) fun w47 => some (.inl (w47.1, w47.2))) (fun x_ => some (.inr x_))) (fun z_ => some z_)) (fun x_ => some (.inr x_))
set_option maxHeartbeats 4000000 in
theorem wX1_bench (l : Launch) (hfl : l.stackTraces = false) {G : HG} {A : Nat → Prop} {τ : HP} {o_ : Nat} {a0 : Int32} {a1 : Int32} {a2 : Int32} {a3 : Int32} {out_ : (Int32 × HP) ⊕ (Nat × Nat × HP)} (hd : eX1_bench τ o_ a0 a1 a2 a3 = some out_) : vx_Met l yX1_bench (ws_ yX1_bench cX1_bench 7 (some .int)) ({ frames := 11, cells := 126, slots := 4935, locals := 252 }) (hPc G A τ [.ref o_, .int a0, .int a1, .int a2, .int a3]) (hXi G A (fun r u => Sum.inl (r, u) = out_)) (hXX G A out_) 126 4935 A := by
  refine vx_ofW (cc := cX1_bench) (maxL := 7) (ret := (some .int)) (by decide) rfl ?_
  intro p_ e_ s_ m_ args_ below_ meth_ c_ s₁_ B hml hno hv
  obtain ⟨rfl, hW, hC⟩ := hv
  have hx := B.exec
  have hb := B.bytes
  have hr := B.returns
  have hts := atoms_spec (ws := (ws_ yX1_bench cX1_bench 7 (some .int))) B.pre
  have hts : ∀ w ∈ lw_all, w.before _ s_ = true := fun w h => hts w (List.mem_cons_of_mem _ h)
  have hown : s_.vm.findClass RX1 = some m_.cls := findClass_of_methodNamed B.named
  have hlocks := B.notSynchronized
  have hK := hC.1
  have hT := hC.2.1
  have hL := hC.2.2.1
  have hZ := hC.2.2.2.2.1
  have hA := hC.2.2.2.2.2
  have hS : va_S A s_.heap s_.heap [] := va_S.rf
  have hl := lv_entry ([.ref o_, .int a0, .int a1, .int a2, .int a3]) (n := 7) (Nat.le_of_ble_eq_true rfl)
  rw [lg_entry_eq]
  generalize (lg_sl ([.ref o_, .int a0, .int a1, .int a2, .int a3]) ++ List.replicate (7 - (lg_sl ([.ref o_, .int a0, .int a1, .int a2, .int a3])).length) Slot.unset).toArray = ls at hl ⊢
  have hl : lv_has ls 7 [(0, .ref o_), (1, .int a0), (2, .int a1), (3, .int a2), (4, .int a3)] := hl
  unfold eX1_bench at hd
  refine lv_aload_n (pc := 0) hx hb dX1_bench_0 rfl (lv_at hl 0 rfl) ?_
  refine lv_iload_n (pc := 1) hx hb dX1_bench_1 rfl (lv_at hl 1 rfl) ?_
  obtain ⟨h1, hd⟩ := wt_ck_o hd
  obtain ⟨w2, hc3, hd⟩ := wt_bd_o hd
  refine kX1_run (pc := 2) hfl hx hb hml hown hts hC hW hS h1 hc3 hl.1 (Nat.le_of_ble_eq_true rfl) ⟨Nat.le_of_ble_eq_true rfl, Nat.le_of_ble_eq_true rfl⟩ ⟨(Nat.le_of_ble_eq_true rfl), (Nat.le_of_ble_eq_true rfl)⟩ q1003 dX1_bench_2 (fun x_ hx_ E_ ce_ q9_ H locs hXB hS hce hvn hfc => ?_) (fun o4 ho_ H locs hW hS => ?_)
  · have hd := wt_rs_r hx_ hd
    exact hx_out (fun z hz => (hno z hz).elim) hlocks hce hvn hfc (Option.some.inj hd) hXB hS (Nat.le_of_ble_eq_true rfl) (Nat.le_of_ble_eq_true rfl)
  · have hd := wt_rs_l ho_ hd
    refine lv_astore (pc := 5) (lv' := [(5, .ref o4.1), (0, .ref o_), (1, .int a0), (2, .int a1), (3, .int a2), (4, .int a3)]) hx hb dX1_bench_5 hl (by decide) rfl (fun ls hl => ?_)
    refine lv_iload_n (pc := 7) hx hb dX1_bench_7 rfl (lv_at hl 3 rfl) ?_
    obtain ⟨w5, hc6, hd⟩ := wt_bd_o hd
    refine kX1_isPlace (pc := 8) hx hb hml hown hts hC hW hS hc6 hl.1 (Nat.le_of_ble_eq_true rfl) ⟨Nat.le_of_ble_eq_true rfl, Nat.le_of_ble_eq_true rfl⟩ ⟨Nat.le_of_ble_eq_true rfl, Nat.le_of_ble_eq_true rfl⟩ q1057 dX1_bench_8 (fun H locs hW hS => ?_)
    obtain ⟨w7, hj8, hq9⟩ := wt_bd_o hd
    have hX10 : ∀ w7_ : Unit, (Sum.inl w7_ : (Unit) ⊕ _) = w7 → ∀ (H : Heap) (locs : List Loc) (ls : Array Slot), Hw G A o4.2 H → va_S A s_.heap H locs → lv_has ls 7 [(0, .ref o_), (2, .int a1), (3, .int a2), (4, .int a3), (5, .ref o4.1)] → W p_ l e_ (headSpec (ws_ yX1_bench cX1_bench 7 (some .int)) ({ frames := 11, cells := 126, slots := 4935, locals := 252 })).room s_ m_ ([.ref o_, .int a0, .int a1, .int a2, .int a3] : List Value).toArray below_ meth_ c_ H locs 1 7 (vx_MQ below_ (hXi G A (fun r u => Sum.inl (r, u) = out_)) (hXX G A out_) ([.ref o_, .int a0, .int a1, .int a2, .int a3] : List Value).toArray s_ 126 4935 A) (F0 m_ 38 ls []) := by
      intro w7_ hw_
      have hd := wt_rs_l hw_ hq9
      clear hj8 hq9
      intro H locs ls hW hS hl
      refine lv_iconst (pc := 38) (v := 0) hx hb dX1_bench_38 (by decide) ?_
      obtain ⟨w34, hc35, hd⟩ := wt_bd_o hd
      refine kX1_need (pc := 39) hfl hx hb hml hown hts hC hW hS hc35 hl.1 (Nat.le_of_ble_eq_true rfl) ⟨Nat.le_of_ble_eq_true rfl, Nat.le_of_ble_eq_true rfl⟩ ⟨(Nat.le_of_ble_eq_true rfl), (Nat.le_of_ble_eq_true rfl)⟩ q676 dX1_bench_39 (fun x_ hx_ E_ ce_ q9_ H locs hXB hS hce hvn hfc => ?_) (fun o36 ho_ H locs hW hS => ?_)
      · have hd := wt_rs_r hx_ hd
        exact hx_out (fun z hz => (hno z hz).elim) hlocks hce hvn hfc (Option.some.inj hd) hXB hS (Nat.le_of_ble_eq_true rfl) (Nat.le_of_ble_eq_true rfl)
      · have hd := wt_rs_l ho_ hd
        obtain ⟨τ37, eτ37, hd⟩ := wt_lt_o hd
        refine hr_new (pc := 42) (ci := 8) (fs := [.null, .int 0, .null, .int 0, .int 0, .int 0, .null]) hx hb hts hown hK hW hS hA rfl tyX11 tyX11_ok (by decide +kernel) q1022 q1023 q97 eτ37 (Nat.le_of_ble_eq_true rfl) (Nat.le_of_ble_eq_true rfl) dX1_bench_42 (fun H hW hS => ?_)
        refine lv_dup (pc := 45) hx hb dX1_bench_45 rfl ?_
        refine lv_aload_n (pc := 46) hx hb dX1_bench_46 rfl (lv_at hl 0 rfl) ?_
        refine lv_aload (pc := 47) hx hb dX1_bench_47 (lv_at hl 4 rfl) ?_
        obtain ⟨ad38, h39, hd⟩ := wt_bd_o hd
        refine hr_getN (pc := 49) hx hb hts hown hK hT hW (hgA_o h39) hf_8_0 (fun _ h => h) q1030 dX1_bench_49 ?_
        obtain ⟨w40, hc41, hd⟩ := wt_bd_o hd
        refine kX11_init (pc := 52) hx hb hml hown hts hC hW hS hc41 hl.1 (Nat.le_of_ble_eq_true rfl) ⟨Nat.le_of_ble_eq_true rfl, Nat.le_of_ble_eq_true rfl⟩ ⟨Nat.le_of_ble_eq_true rfl, Nat.le_of_ble_eq_true rfl⟩ q1025 dX1_bench_52 (fun H locs hW hS => ?_)
        refine lv_astore (pc := 55) (lv' := [(6, .ref o4.2.2), (0, .ref o_), (2, .int a1), (3, .int a2), (4, .int a3), (5, .ref o4.1)]) hx hb dX1_bench_55 hl (by decide) rfl (fun ls hl => ?_)
        refine lv_aload (pc := 57) hx hb dX1_bench_57 (lv_at hl 0 rfl) ?_
        obtain ⟨τ42, eτ42, hd⟩ := wt_lt_o hd
        refine hr_new (pc := 59) (ci := 6) (fs := [.int 0, .int 0, .int 0]) hx hb hts hown hK hW hS hA rfl tyX9 tyX9_ok (by decide +kernel) q1410 q945 q94 eτ42 (Nat.le_of_ble_eq_true rfl) (Nat.le_of_ble_eq_true rfl) dX1_bench_59 (fun H hW hS => ?_)
        refine lv_dup (pc := 62) hx hb dX1_bench_62 rfl ?_
        refine lv_iload_n (pc := 63) hx hb dX1_bench_63 rfl (lv_at hl 2 rfl) ?_
        refine lv_iload_n (pc := 64) hx hb dX1_bench_64 rfl (lv_at hl 3 rfl) ?_
        refine lv_iload (pc := 65) hx hb dX1_bench_65 (lv_at hl 4 rfl) ?_
        obtain ⟨w43, hc44, hd⟩ := wt_bd_o hd
        refine kX9_init (pc := 67) hx hb hml hown hts hC hW hS hc44 hl.1 (Nat.le_of_ble_eq_true rfl) ⟨Nat.le_of_ble_eq_true rfl, Nat.le_of_ble_eq_true rfl⟩ ⟨Nat.le_of_ble_eq_true rfl, Nat.le_of_ble_eq_true rfl⟩ q1411 dX1_bench_67 (fun H locs hW hS => ?_)
        obtain ⟨τ45, h46, hd⟩ := wt_bd_o hd
        refine hr_putN (pc := 70) (ty := (.object "WoolThreads$Event")) hx hb hts hown hK hT hW hS h46 hf_8_2 (by decide +kernel) rfl rfl (fun _ h => h) q1034 dX1_bench_70 (fun H locs hW hS => ?_)
        refine lv_aload (pc := 73) hx hb dX1_bench_73 (lv_at hl 0 rfl) ?_
        refine lv_aload (pc := 75) hx hb dX1_bench_75 (lv_at hl 5 rfl) ?_
        refine lv_iconst (pc := 77) (v := -1) hx hb dX1_bench_77 (by decide) ?_
        obtain ⟨w47, hc48, hd⟩ := wt_bd_o hd
        refine kX1_worthOf (pc := 78) hx hb hml hown hts hC hW hS hc48 hl.1 (Nat.le_of_ble_eq_true rfl) ⟨Nat.le_of_ble_eq_true rfl, Nat.le_of_ble_eq_true rfl⟩ ⟨(Nat.le_of_ble_eq_true rfl), (Nat.le_of_ble_eq_true rfl)⟩ q1346 dX1_bench_78 (fun H locs hW hS => ?_)
        refine vx_ret ?_
        exact hx_iret hx hb hr rfl hlocks (Option.some.inj hd) hW hS dX1_bench_81 (Nat.le_of_ble_eq_true rfl) (Nat.le_of_ble_eq_true rfl)
    have hd := hj8
    refine lv_if_eq (pc := 11) (tgt := 38) hx hb dX1_bench_11 (by decide) (fun c11 => ?_) (fun c11 => ?_)
    · have hd := wt_it hd c11
      exact hX10 () (Option.some.inj hd) _ _ _ hW hS (lv_sub hl [1, 3, 4, 5, 0] rfl)
    · have hd := wt_if hd c11
      refine lv_iload_n (pc := 14) hx hb dX1_bench_14 rfl (lv_at hl 4 rfl) ?_
      obtain ⟨w12, hc13, hd⟩ := wt_bd_o hd
      refine kX1_isPlace (pc := 15) hx hb hml hown hts hC hW hS hc13 hl.1 (Nat.le_of_ble_eq_true rfl) ⟨Nat.le_of_ble_eq_true rfl, Nat.le_of_ble_eq_true rfl⟩ ⟨Nat.le_of_ble_eq_true rfl, Nat.le_of_ble_eq_true rfl⟩ q1057 dX1_bench_15 (fun H locs hW hS => ?_)
      refine lv_if_eq (pc := 18) (tgt := 38) hx hb dX1_bench_18 (by decide) (fun c14 => ?_) (fun c14 => ?_)
      · have hd := wt_it hd c14
        exact hX10 () (Option.some.inj hd) _ _ _ hW hS (lv_sub hl [1, 3, 4, 5, 0] rfl)
      · have hd := wt_if hd c14
        refine lv_iload_n (pc := 21) hx hb dX1_bench_21 rfl (lv_at hl 3 rfl) ?_
        refine lv_iload_n (pc := 22) hx hb dX1_bench_22 rfl (lv_at hl 4 rfl) ?_
        refine lv_icmp_eq (pc := 23) (tgt := 38) hx hb dX1_bench_23 (by decide) (fun c15 => ?_) (fun c15 => ?_)
        · have hd := wt_it hd c15
          exact hX10 () (Option.some.inj hd) _ _ _ hW hS (lv_sub hl [1, 3, 4, 5, 0] rfl)
        · have hd := wt_if hd c15
          refine lv_iload (pc := 26) hx hb dX1_bench_26 (lv_at hl 5 rfl) ?_
          obtain ⟨w16, hc17, hd⟩ := wt_bd_o hd
          refine kX1_isHour (pc := 28) hx hb hml hown hts hC hW hS hc17 hl.1 (Nat.le_of_ble_eq_true rfl) ⟨Nat.le_of_ble_eq_true rfl, Nat.le_of_ble_eq_true rfl⟩ ⟨Nat.le_of_ble_eq_true rfl, Nat.le_of_ble_eq_true rfl⟩ q1060 dX1_bench_28 (fun H locs hW hS => ?_)
          refine lv_if_eq (pc := 31) (tgt := 38) hx hb dX1_bench_31 (by decide) (fun c18 => ?_) (fun c18 => ?_)
          · have hd := wt_it hd c18
            exact hX10 () (Option.some.inj hd) _ _ _ hW hS (lv_sub hl [1, 3, 4, 5, 0] rfl)
          · have hd := wt_if hd c18
            refine lv_iconst (pc := 34) (v := 1) hx hb dX1_bench_34 (by decide) ?_
            refine lv_goto (pc := 35) (tgt := 39) hx hb dX1_bench_35 (by decide) ?_
            obtain ⟨w19, hc20, hd⟩ := wt_bd_o hd
            refine kX1_need (pc := 39) hfl hx hb hml hown hts hC hW hS hc20 hl.1 (Nat.le_of_ble_eq_true rfl) ⟨Nat.le_of_ble_eq_true rfl, Nat.le_of_ble_eq_true rfl⟩ ⟨(Nat.le_of_ble_eq_true rfl), (Nat.le_of_ble_eq_true rfl)⟩ q676 dX1_bench_39 (fun x_ hx_ E_ ce_ q9_ H locs hXB hS hce hvn hfc => ?_) (fun o21 ho_ H locs hW hS => ?_)
            · have hd := wt_rs_r hx_ hd
              have hd := wt_rs_r (Option.some.inj hd) hq9
              exact hx_out (fun z hz => (hno z hz).elim) hlocks hce hvn hfc (Option.some.inj hd) hXB hS (Nat.le_of_ble_eq_true rfl) (Nat.le_of_ble_eq_true rfl)
            · have hd := wt_rs_l ho_ hd
              obtain ⟨τ22, eτ22, hd⟩ := wt_lt_o hd
              refine hr_new (pc := 42) (ci := 8) (fs := [.null, .int 0, .null, .int 0, .int 0, .int 0, .null]) hx hb hts hown hK hW hS hA rfl tyX11 tyX11_ok (by decide +kernel) q1022 q1023 q97 eτ22 (Nat.le_of_ble_eq_true rfl) (Nat.le_of_ble_eq_true rfl) dX1_bench_42 (fun H hW hS => ?_)
              refine lv_dup (pc := 45) hx hb dX1_bench_45 rfl ?_
              refine lv_aload_n (pc := 46) hx hb dX1_bench_46 rfl (lv_at hl 1 rfl) ?_
              refine lv_aload (pc := 47) hx hb dX1_bench_47 (lv_at hl 0 rfl) ?_
              obtain ⟨ad23, h24, hd⟩ := wt_bd_o hd
              refine hr_getN (pc := 49) hx hb hts hown hK hT hW (hgA_o h24) hf_8_0 (fun _ h => h) q1030 dX1_bench_49 ?_
              obtain ⟨w25, hc26, hd⟩ := wt_bd_o hd
              refine kX11_init (pc := 52) hx hb hml hown hts hC hW hS hc26 hl.1 (Nat.le_of_ble_eq_true rfl) ⟨Nat.le_of_ble_eq_true rfl, Nat.le_of_ble_eq_true rfl⟩ ⟨Nat.le_of_ble_eq_true rfl, Nat.le_of_ble_eq_true rfl⟩ q1025 dX1_bench_52 (fun H locs hW hS => ?_)
              refine lv_astore (pc := 55) (lv' := [(6, .ref o4.2.2), (5, .ref o4.1), (0, .ref o_), (1, .int a0), (2, .int a1), (3, .int a2), (4, .int a3)]) hx hb dX1_bench_55 hl (by decide) rfl (fun ls hl => ?_)
              refine lv_aload (pc := 57) hx hb dX1_bench_57 (lv_at hl 0 rfl) ?_
              obtain ⟨τ27, eτ27, hd⟩ := wt_lt_o hd
              refine hr_new (pc := 59) (ci := 6) (fs := [.int 0, .int 0, .int 0]) hx hb hts hown hK hW hS hA rfl tyX9 tyX9_ok (by decide +kernel) q1410 q945 q94 eτ27 (Nat.le_of_ble_eq_true rfl) (Nat.le_of_ble_eq_true rfl) dX1_bench_59 (fun H hW hS => ?_)
              refine lv_dup (pc := 62) hx hb dX1_bench_62 rfl ?_
              refine lv_iload_n (pc := 63) hx hb dX1_bench_63 rfl (lv_at hl 4 rfl) ?_
              refine lv_iload_n (pc := 64) hx hb dX1_bench_64 rfl (lv_at hl 5 rfl) ?_
              refine lv_iload (pc := 65) hx hb dX1_bench_65 (lv_at hl 6 rfl) ?_
              obtain ⟨w28, hc29, hd⟩ := wt_bd_o hd
              refine kX9_init (pc := 67) hx hb hml hown hts hC hW hS hc29 hl.1 (Nat.le_of_ble_eq_true rfl) ⟨Nat.le_of_ble_eq_true rfl, Nat.le_of_ble_eq_true rfl⟩ ⟨Nat.le_of_ble_eq_true rfl, Nat.le_of_ble_eq_true rfl⟩ q1411 dX1_bench_67 (fun H locs hW hS => ?_)
              obtain ⟨τ30, h31, hd⟩ := wt_bd_o hd
              refine hr_putN (pc := 70) (ty := (.object "WoolThreads$Event")) hx hb hts hown hK hT hW hS h31 hf_8_2 (by decide +kernel) rfl rfl (fun _ h => h) q1034 dX1_bench_70 (fun H locs hW hS => ?_)
              refine lv_aload (pc := 73) hx hb dX1_bench_73 (lv_at hl 0 rfl) ?_
              refine lv_aload (pc := 75) hx hb dX1_bench_75 (lv_at hl 1 rfl) ?_
              refine lv_iconst (pc := 77) (v := -1) hx hb dX1_bench_77 (by decide) ?_
              obtain ⟨w32, hc33, hd⟩ := wt_bd_o hd
              refine kX1_worthOf (pc := 78) hx hb hml hown hts hC hW hS hc33 hl.1 (Nat.le_of_ble_eq_true rfl) ⟨Nat.le_of_ble_eq_true rfl, Nat.le_of_ble_eq_true rfl⟩ ⟨(Nat.le_of_ble_eq_true rfl), (Nat.le_of_ble_eq_true rfl)⟩ q1346 dX1_bench_78 (fun H locs hW hS => ?_)
              have hd := wt_rs_r (Option.some.inj hd) hq9
              refine vx_ret ?_
              exact hx_iret hx hb hr rfl hlocks (Option.some.inj hd) hW hS dX1_bench_81 (Nat.le_of_ble_eq_true rfl) (Nat.le_of_ble_eq_true rfl)
theorem kX1_bench {p : Program} {l : Launch} {e : Env} {R : Room} {s : State} {m : MethodId} {args : Array Value} {below : List Frame} {meth : Method} {c : Code} {H : Heap} {locs : List Loc} {cells slots : Nat} {Q : State → Prop} {cc : ByteArray} {pc : Nat} {ls : Array Slot} {rest : List Value} {nL : Nat} {own : String} {index : Nat} {G : HG} {A : Nat → Prop} {τ : HP} {o_ : Nat} {a0 : Int32} {a1 : Int32} {a2 : Int32} {a3 : Int32} {out_ : (Int32 × HP) ⊕ (Nat × Nat × HP)} (hfl : l.stackTraces = false) (hx : p.tables.exec = Jvm.exec) (hb : c.code = cc) (hml : c.maxLocals = nL) (hown : s.vm.findClass own = some m.cls) (hts : ∀ w ∈ lw_all, w.before args s = true) (hC : Hcx G A s) (hW : Hw G A τ H) (hS : va_S A s.heap H locs) (hrc : hcl τ o_ = some 0) (hd : eX1_bench τ o_ a0 a1 a2 a3 = some out_) (hsz : ls.size = nL) (hrm : (rest.map fun v => v.category).sum ≤ 8) (hR : 12 ≤ R.frames ∧ 278 ≤ R.locals) (hcs : (cells + 126) ≤ R.cells ∧ (slots + 4935) ≤ R.slots) (hlk : Cond.methodLink own index yX1_bench ∈ lw_all) (hdg : decode cc pc = .ok (.invokevirtual index, 3)) (kx : ∀ x_ : Nat × Nat × HP, Sum.inr x_ = out_ → ∀ (E : String) (ce : Cell) (q9 : Addr) (H1 : Heap) (locs1 : List Loc), hXb G A E q9 x_ H1 → va_S A s.heap H1 locs1 → H1[q9]? = some ce → ce.vm = .none → s.vm.findClass E = some ce.cls → vx_W p l e R s m args below meth c H1 locs1 (cells + 126) (slots + 4935) Q (F0 m pc ls rest) q9) (kk : ∀ o_1 : Int32 × HP, Sum.inl o_1 = out_ → ∀ (H1 : Heap) (locs1 : List Loc), Hw G A o_1.2 H1 → va_S A s.heap H1 locs1 → W p l e R s m args below meth c H1 locs1 (cells + 126) (slots + 4935) Q (F0 m (pc + 3) ls (.int o_1.1 :: rest))) : W p l e R s m args below meth c H locs cells slots Q (F0 m pc ls (.int a3 :: .int a2 :: .int a1 :: .int a0 :: .ref o_ :: rest)) := by
  refine vx_calli (vx_runV (As := [.int a0, .int a1, .int a2, .int a3]) (rest := rest) ⟨hx, hb, hml, hown, hts⟩ (wX1_bench l hfl hd) (cwV 4 hts (lw_V hlk q1407 q1408 q66 q1409) rfl rfl rfl (by decide +kernel) hR) (hr_preV hC hW hS hrc rfl rfl) rfl rfl hsz rfl (lv_room hrm) hdg hcs) hS (fun _ _ h => h) (fun _ h => h) (fun _ _ h => h) (fun E ce q9 u t H1 locs1 ht hvm hp hB hz hk hS1 hce hvn hfc => ?_) (fun r u t H1 locs1 ht hvm hp hB hz hk hS1 => ?_)
  · rw [ht] at hB
    exact kx u hp E ce q9 H1 locs1 hB hS1 hce hvn hfc
  · have hW1 : Hw G A u t.heap := hB
    rw [ht] at hW1
    exact kk (r, u) hp H1 locs1 hW1 hS1
noncomputable def bX1_leftOf_1 (τ : HP) (o_ : Nat) (a0 : Int32) (a2 : Int32) (v1 : Int32 × Int32) : Option ((Int32 × Int32) ⊕ (Int32)) :=
  if a2 ≤ v1.2 then (some (.inr v1.1)) else (wt_bd (hgA τ o_ [0] 0) fun ad12 => wt_bd (hgA τ ad12 [1] 1) fun ad14 => wt_bd (haI τ ad14 0) fun z16 => wt_ck (vp_in a0 z16.1) <| wt_lt (((v1.1 * (z16.2 a0.toNatClampNeg)) / (16 : Int32))) fun n19 => wt_lt (v1.2 + (1 : Int32)) fun n20 => some (.inl (n19, n20)))
noncomputable def eX1_leftOf (τ : HP) (o_ : Nat) (a0 : Int32) (a1 : Int32) (a2 : Int32) : Option (Int32) :=
  wt_bd (wt_whC (bX1_leftOf_1 τ o_ a0 a2) (a1, (0 : Int32))) fun w2 => some w2
set_option maxHeartbeats 4000000 in
theorem wX1_leftOf (l : Launch) {G : HG} {A : Nat → Prop} {τ : HP} {o_ : Nat} {a0 : Int32} {a1 : Int32} {a2 : Int32} {out_ : Int32} (hd : eX1_leftOf τ o_ a0 a1 a2 = some out_) : Met l yX1_leftOf (ws_ yX1_leftOf cX1_leftOf 6 (some .int)) ({ frames := 0, cells := 0, slots := 0, locals := 0 }) (hPc G A τ [.ref o_, .int a0, .int a1, .int a2]) (hQi G out_ τ A) 0 0 A := by
  refine Met.ofW (cc := cX1_leftOf) (maxL := 6) (ret := (some .int)) (by decide) rfl ?_
  intro p_ e_ s_ m_ args_ below_ meth_ c_ s₁_ B hml hv
  obtain ⟨rfl, hW, hC⟩ := hv
  have hx := B.exec
  have hb := B.bytes
  have hr := B.returns
  have hts := atoms_spec (ws := (ws_ yX1_leftOf cX1_leftOf 6 (some .int))) B.pre
  have hts : ∀ w ∈ lw_all, w.before _ s_ = true := fun w h => hts w (List.mem_cons_of_mem _ h)
  have hown : s_.vm.findClass RX1 = some m_.cls := findClass_of_methodNamed B.named
  have hlocks := B.notSynchronized
  have hK := hC.1
  have hT := hC.2.1
  have hL := hC.2.2.1
  have hZ := hC.2.2.2.2.1
  have hA := hC.2.2.2.2.2
  have hS : va_S A s_.heap s_.heap [] := va_S.rf
  have hl := lv_entry ([.ref o_, .int a0, .int a1, .int a2]) (n := 6) (Nat.le_of_ble_eq_true rfl)
  rw [lg_entry_eq]
  generalize (lg_sl ([.ref o_, .int a0, .int a1, .int a2]) ++ List.replicate (6 - (lg_sl ([.ref o_, .int a0, .int a1, .int a2])).length) Slot.unset).toArray = ls at hl ⊢
  have hl : lv_has ls 6 [(0, .ref o_), (1, .int a0), (2, .int a1), (3, .int a2)] := hl
  unfold eX1_leftOf at hd
  refine lv_iload_n (pc := 0) hx hb dX1_leftOf_0 rfl (lv_at hl 2 rfl) ?_
  refine lv_istore (pc := 1) (lv' := [(4, .int a1), (0, .ref o_), (1, .int a0), (2, .int a1), (3, .int a2)]) hx hb dX1_leftOf_1 hl (by decide) rfl (fun ls hl => ?_)
  refine lv_iconst (pc := 3) (v := 0) hx hb dX1_leftOf_3 (by decide) ?_
  refine lv_istore (pc := 4) (lv' := [(5, .int (0 : Int32)), (4, .int a1), (0, .ref o_), (1, .int a0), (2, .int a1), (3, .int a2)]) hx hb dX1_leftOf_4 hl (by decide) rfl (fun ls hl => ?_)
  obtain ⟨w2, hL3, hq4⟩ := wt_bd_o hd
  have hX5 : ∀ w2_ : Int32, w2_ = w2 → ∀ (H : Heap) (locs : List Loc) (ls : Array Slot), Hw G A τ H → va_S A s_.heap H locs → lv_has ls 6 [(4, .int w2_)] → W p_ l e_ (headSpec (ws_ yX1_leftOf cX1_leftOf 6 (some .int)) ({ frames := 0, cells := 0, slots := 0, locals := 0 })).room s_ m_ ([.ref o_, .int a0, .int a1, .int a2] : List Value).toArray below_ meth_ c_ H locs 0 0 (MQ below_ (hQi G out_ τ A) ([.ref o_, .int a0, .int a1, .int a2] : List Value).toArray s_ 0 0 A) (F0 m_ 35 ls []) := by
    intro w2_ hw_
    have hd := hq4
    subst hw_
    clear hL3 hq4
    intro H locs ls hW hS hl
    refine lv_iload (pc := 35) hx hb dX1_leftOf_35 (lv_at hl 0 rfl) ?_
    exact hr_iret hx hb hr rfl hlocks (Option.some.inj hd) rfl hW hS dX1_leftOf_37 (Nat.le_of_ble_eq_true rfl) (Nat.le_of_ble_eq_true rfl)
  have hI10 : ∀ (k9 : Nat) (v1 : Int32 × Int32), wt_wh (bX1_leftOf_1 τ o_ a0 a2) k9 v1 = some w2 → ∀ (H : Heap) (locs : List Loc) (ls : Array Slot), Hw G A τ H → va_S A s_.heap H locs → lv_has ls 6 [(0, .ref o_), (1, .int a0), (3, .int a2), (4, .int v1.1), (5, .int v1.2)] → W p_ l e_ (headSpec (ws_ yX1_leftOf cX1_leftOf 6 (some .int)) ({ frames := 0, cells := 0, slots := 0, locals := 0 })).room s_ m_ ([.ref o_, .int a0, .int a1, .int a2] : List Value).toArray below_ meth_ c_ H locs 0 0 (MQ below_ (hQi G out_ τ A) ([.ref o_, .int a0, .int a1, .int a2] : List Value).toArray s_ 0 0 A) (F0 m_ 6 ls []) := by
    intro k9
    induction k9 with
    | zero => intro v1 hd; exact absurd hd wt_wh_z
    | succ k9 ih7 =>
      intro v1 hd
      intro H locs ls hW hS hl
      obtain ⟨r8, hd, hk6⟩ := wt_wh_o hd
      unfold bX1_leftOf_1 at hd
      refine lv_iload (pc := 6) hx hb dX1_leftOf_6 (lv_at hl 4 rfl) ?_
      refine lv_iload_n (pc := 8) hx hb dX1_leftOf_8 rfl (lv_at hl 2 rfl) ?_
      refine lv_icmp_ge (pc := 9) (tgt := 35) hx hb dX1_leftOf_9 (by decide) (fun c11 => ?_) (fun c11 => ?_)
      · have hd := wt_it hd c11
        exact hX5 v1.1 (wt_exit hd hk6) _ _ _ hW hS (lv_sub hl [3] rfl)
      · have hd := wt_if hd c11
        refine lv_iload (pc := 12) hx hb dX1_leftOf_12 (lv_at hl 3 rfl) ?_
        refine lv_aload_n (pc := 14) hx hb dX1_leftOf_14 rfl (lv_at hl 0 rfl) ?_
        obtain ⟨ad12, h13, hd⟩ := wt_bd_o hd
        refine hr_get (pc := 15) hx hb hts hown hK hW (hgA_o h13) hf_0_0 (fun _ h => h) q534 dX1_leftOf_15 ?_
        obtain ⟨ad14, h15, hd⟩ := wt_bd_o hd
        refine hr_getN (pc := 18) hx hb hts hown hK hT hW (hgA_o h15) hf_1_1 (fun _ h => h) q125 dX1_leftOf_18 ?_
        refine lv_iload_n (pc := 21) hx hb dX1_leftOf_21 rfl (lv_at hl 1 rfl) ?_
        obtain ⟨z16, h17, hd⟩ := wt_bd_o hd
        obtain ⟨h18, hd⟩ := wt_ck_o hd
        refine hr_iald (pc := 22) hx hb hK hW h17 h18 dX1_leftOf_22 ?_
        refine lv_imul (pc := 23) hx hb dX1_leftOf_23 ?_
        refine lv_bipush (pc := 24) (v := 16) hx hb dX1_leftOf_24 (by decide) ?_
        refine lv_idiv (pc := 26) hx hb dX1_leftOf_26 (by decide) ?_
        obtain ⟨n19, en19, hd⟩ := wt_lt_o hd
        refine lv_tope en19 ?_
        refine lv_istore (pc := 27) (lv' := [(4, .int n19), (0, .ref o_), (1, .int a0), (3, .int a2), (5, .int v1.2)]) hx hb dX1_leftOf_27 hl (by decide) rfl (fun ls hl => ?_)
        obtain ⟨n20, en20, hd⟩ := wt_lt_o hd
        refine lv_iinc (pc := 29) (k := 4) (v := n20) (lv' := [(5, .int n20), (4, .int n19), (0, .ref o_), (1, .int a0), (3, .int a2)]) hx hb dX1_leftOf_29 hl rfl en20.symm (by decide) rfl (fun ls hl => ?_)
        refine lv_goto (pc := 32) (tgt := 6) hx hb dX1_leftOf_32 (by decide) ?_
        exact ih7 _ (wt_again hd hk6) _ _ _ hW hS (lv_sub hl [2, 3, 4, 1, 0] rfl)
  obtain ⟨k9, hL3⟩ := wt_whC_o hL3
  exact hI10 k9 _ hL3 _ _ _ hW hS (lv_sub hl [2, 3, 5, 1, 0] rfl)
theorem kX1_leftOf {p : Program} {l : Launch} {e : Env} {R : Room} {s : State} {m : MethodId} {args : Array Value} {below : List Frame} {meth : Method} {c : Code} {H : Heap} {locs : List Loc} {cells slots : Nat} {Q : State → Prop} {cc : ByteArray} {pc : Nat} {ls : Array Slot} {rest : List Value} {nL : Nat} {own : String} {index : Nat} {G : HG} {A : Nat → Prop} {τ : HP} {o_ : Nat} {a0 : Int32} {a1 : Int32} {a2 : Int32} {out_ : Int32} (hx : p.tables.exec = Jvm.exec) (hb : c.code = cc) (hml : c.maxLocals = nL) (hown : s.vm.findClass own = some m.cls) (hts : ∀ w ∈ lw_all, w.before args s = true) (hC : Hcx G A s) (hW : Hw G A τ H) (hS : va_S A s.heap H locs) (hrc : hcl τ o_ = some 0) (hd : eX1_leftOf τ o_ a0 a1 a2 = some out_) (hsz : ls.size = nL) (hrm : (rest.map fun v => v.category).sum ≤ 8) (hR : 1 ≤ R.frames ∧ 25 ≤ R.locals) (hcs : cells ≤ R.cells ∧ slots ≤ R.slots) (hlk : Cond.methodLink own index yX1_leftOf ∈ lw_all) (hdg : decode cc pc = .ok (.invokevirtual index, 3)) (kk : ∀ (H1 : Heap) (locs1 : List Loc), Hw G A τ H1 → va_S A s.heap H1 locs1 → W p l e R s m args below meth c H1 locs1 cells slots Q (F0 m (pc + 3) ls (.int out_ :: rest))) : W p l e R s m args below meth c H locs cells slots Q (F0 m pc ls (.int a2 :: .int a1 :: .int a0 :: .ref o_ :: rest)) := by
  refine va_calli (va_runV (As := [.int a0, .int a1, .int a2]) (rest := rest) ⟨hx, hb, hml, hown, hts⟩ (wX1_leftOf l hd) (cwV 3 hts (lw_V hlk q1422 qs22 q66 q1423) rfl rfl rfl (by decide +kernel) hR) (hr_preV hC hW hS hrc rfl rfl) rfl rfl hsz rfl (lv_room hrm) hdg hcs) hS (fun _ _ h => h) (fun _ h => h) (fun r u t H1 locs1 ht hvm hp hB hz hk hS1 => ?_)
  have hp : r = out_ := hp
  subst hp
  have hW1 : Hw G A τ t.heap := hB
  rw [ht] at hW1
  exact kk H1 locs1 hW1 hS1
noncomputable def bX1_after_1 (τ : HP) (o_ : Nat) (a0 : Int32) (a1 : Int32) (a2 : Int32) (a3 : Int32) (v23 : Int32 × Int32) : Option ((Int32 × Int32) ⊕ (Int32)) :=
  if v23.2 ≤ v23.1 then (some (.inr v23.1)) else (wt_lt (((v23.1 + v23.2) / (2 : Int32))) fun n34 => wt_ck (hcl τ o_ = some 0) <| wt_bd (eX1_leftOf τ o_ a0 n34 a2) fun w36 => wt_bd (if a3 = 0 then (if w36 < a1 then (wt_lt ((n34 + (1 : Int32))) fun n44 => some (.inr (.inl (n44, v23.2)))) else (some (.inl ()))) else (if w36 ≤ a1 then (wt_lt ((n34 + (1 : Int32))) fun n46 => some (.inr (.inl (n46, v23.2)))) else (some (.inl ())))) fun w38 => wt_rs w38 (fun w38 => some (.inl (v23.1, n34))) (fun z_ => some z_))
noncomputable def bX1_after_2 (τ : HP) (o_ : Nat) (a0 : Int32) (a1 : Int32) (a2 : Int32) (a3 : Int32) (v61 : Int32 × Int32) : Option ((Int32 × Int32) ⊕ (Int32)) :=
  if v61.2 ≤ v61.1 then (some (.inr v61.1)) else (wt_lt (((v61.1 + v61.2) / (2 : Int32))) fun n72 => wt_ck (hcl τ o_ = some 0) <| wt_bd (eX1_leftOf τ o_ a0 n72 a2) fun w74 => wt_bd (if a3 = 0 then (if w74 < a1 then (wt_lt ((n72 + (1 : Int32))) fun n82 => some (.inr (.inl (n82, v61.2)))) else (some (.inl ()))) else (if w74 ≤ a1 then (wt_lt ((n72 + (1 : Int32))) fun n84 => some (.inr (.inl (n84, v61.2)))) else (some (.inl ())))) fun w76 => wt_rs w76 (fun w76 => some (.inl (v61.1, n72))) (fun z_ => some z_))
noncomputable def eX1_after (τ : HP) (o_ : Nat) (a0 : Int32) (a1 : Int32) (a2 : Int32) (a3 : Int32) : Option ((Int32) ⊕ (Nat × Nat × HP)) :=
  wt_bd (eX1_isSort a0) fun w1 => wt_bd (if w1 = 0 then (some (.inl ())) else (if a1 < 0 then (some (.inl ())) else (if (9999 : Int32) < a1 then (some (.inl ())) else (if a2 < 0 then (some (.inl ())) else (if (60 : Int32) < a2 then (some (.inl ())) else (wt_bd (hgA τ o_ [0] 0) fun ad12 => wt_bd (hgA τ ad12 [1] 1) fun ad14 => wt_bd (haI τ ad14 0) fun z16 => wt_ck (vp_in a0 z16.1) <| if (z16.2 a0.toNatClampNeg) ≤ 0 then (some (.inl ())) else (wt_bd (eX1_need τ (1 : Int32)) fun w20 => wt_rs w20 (fun o22 => wt_bd (wt_whC (bX1_after_1 τ o_ a0 a1 a2 a3) ((0 : Int32), (100000 : Int32))) fun w24 => wt_bd (if a3 = 0 then (some (w24)) else (some (w24 - (1 : Int32)))) fun w47 => if w47 < 0 then (some (.inr (.inl (-1 : Int32)))) else (if (99999 : Int32) < w47 then (some (.inr (.inl (-1 : Int32)))) else (wt_ck (hcl τ o_ = some 0) <| wt_bd (eX1_leftOf τ o_ a0 w47 a2) fun w55 => if w55 = a1 then (some (.inr (.inl w47))) else (some (.inr (.inl (-1 : Int32))))))) (fun x_ => some (.inr (.inr x_)))))))))) fun w3 => wt_rs w3 (fun w3 => wt_bd (eX1_need τ (0 : Int32)) fun w58 => wt_rs w58 (fun o60 => wt_bd (wt_whC (bX1_after_2 τ o_ a0 a1 a2 a3) ((0 : Int32), (100000 : Int32))) fun w62 => wt_bd (if a3 = 0 then (some (w62)) else (some (w62 - (1 : Int32)))) fun w85 => if w85 < 0 then (some (.inl (-1 : Int32))) else (if (99999 : Int32) < w85 then (some (.inl (-1 : Int32))) else (wt_ck (hcl τ o_ = some 0) <| wt_bd (eX1_leftOf τ o_ a0 w85 a2) fun w93 => if w93 = a1 then (some (.inl w85)) else (some (.inl (-1 : Int32)))))) (fun x_ => some (.inr x_))) (fun z_ => some z_)
set_option maxHeartbeats 4000000 in
theorem wX1_after (l : Launch) (hfl : l.stackTraces = false) {G : HG} {A : Nat → Prop} {τ : HP} {o_ : Nat} {a0 : Int32} {a1 : Int32} {a2 : Int32} {a3 : Int32} {out_ : (Int32) ⊕ (Nat × Nat × HP)} (hd : eX1_after τ o_ a0 a1 a2 a3 = some out_) : vx_Met l yX1_after (ws_ yX1_after cX1_after 9 (some .int)) ({ frames := 7, cells := 1, slots := 6, locals := 130 }) (hPc G A τ [.ref o_, .int a0, .int a1, .int a2, .int a3]) (hXi G A (fun r u => Sum.inl r = out_ ∧ u = τ)) (hXX G A out_) 1 6 A := by
  refine vx_ofW (cc := cX1_after) (maxL := 9) (ret := (some .int)) (by decide) rfl ?_
  intro p_ e_ s_ m_ args_ below_ meth_ c_ s₁_ B hml hno hv
  obtain ⟨rfl, hW, hC⟩ := hv
  have hx := B.exec
  have hb := B.bytes
  have hr := B.returns
  have hts := atoms_spec (ws := (ws_ yX1_after cX1_after 9 (some .int))) B.pre
  have hts : ∀ w ∈ lw_all, w.before _ s_ = true := fun w h => hts w (List.mem_cons_of_mem _ h)
  have hown : s_.vm.findClass RX1 = some m_.cls := findClass_of_methodNamed B.named
  have hlocks := B.notSynchronized
  have hK := hC.1
  have hT := hC.2.1
  have hL := hC.2.2.1
  have hZ := hC.2.2.2.2.1
  have hA := hC.2.2.2.2.2
  have hS : va_S A s_.heap s_.heap [] := va_S.rf
  have hl := lv_entry ([.ref o_, .int a0, .int a1, .int a2, .int a3]) (n := 9) (Nat.le_of_ble_eq_true rfl)
  rw [lg_entry_eq]
  generalize (lg_sl ([.ref o_, .int a0, .int a1, .int a2, .int a3]) ++ List.replicate (9 - (lg_sl ([.ref o_, .int a0, .int a1, .int a2, .int a3])).length) Slot.unset).toArray = ls at hl ⊢
  have hl : lv_has ls 9 [(0, .ref o_), (1, .int a0), (2, .int a1), (3, .int a2), (4, .int a3)] := hl
  unfold eX1_after at hd
  refine lv_iload_n (pc := 0) hx hb dX1_after_0 rfl (lv_at hl 1 rfl) ?_
  obtain ⟨w1, hc2, hd⟩ := wt_bd_o hd
  refine kX1_isSort (pc := 1) hx hb hml hown hts hC hW hS hc2 hl.1 (Nat.le_of_ble_eq_true rfl) ⟨Nat.le_of_ble_eq_true rfl, Nat.le_of_ble_eq_true rfl⟩ ⟨Nat.le_of_ble_eq_true rfl, Nat.le_of_ble_eq_true rfl⟩ q978 dX1_after_1 (fun H locs hW hS => ?_)
  obtain ⟨w3, hj4, hq5⟩ := wt_bd_o hd
  have hX6 : ∀ w3_ : Unit, (Sum.inl w3_ : (Unit) ⊕ _) = w3 → ∀ (H : Heap) (locs : List Loc) (ls : Array Slot), Hw G A τ H → va_S A s_.heap H locs → lv_has ls 9 [(0, .ref o_), (1, .int a0), (2, .int a1), (3, .int a2), (4, .int a3)] → W p_ l e_ (headSpec (ws_ yX1_after cX1_after 9 (some .int)) ({ frames := 7, cells := 1, slots := 6, locals := 130 })).room s_ m_ ([.ref o_, .int a0, .int a1, .int a2, .int a3] : List Value).toArray below_ meth_ c_ H locs 0 0 (vx_MQ below_ (hXi G A (fun r u => Sum.inl r = out_ ∧ u = τ)) (hXX G A out_) ([.ref o_, .int a0, .int a1, .int a2, .int a3] : List Value).toArray s_ 1 6 A) (F0 m_ 44 ls []) := by
    intro w3_ hw_
    have hd := wt_rs_l hw_ hq5
    clear hj4 hq5
    intro H locs ls hW hS hl
    refine lv_iconst (pc := 44) (v := 0) hx hb dX1_after_44 (by decide) ?_
    obtain ⟨w58, hc59, hd⟩ := wt_bd_o hd
    refine kX1_need (pc := 45) hfl hx hb hml hown hts hC hW hS hc59 hl.1 (Nat.le_of_ble_eq_true rfl) ⟨Nat.le_of_ble_eq_true rfl, Nat.le_of_ble_eq_true rfl⟩ ⟨(Nat.le_of_ble_eq_true rfl), (Nat.le_of_ble_eq_true rfl)⟩ q676 dX1_after_45 (fun x_ hx_ E_ ce_ q9_ H locs hXB hS hce hvn hfc => ?_) (fun o60 ho_ H locs hW hS => ?_)
    · have hd := wt_rs_r hx_ hd
      exact hx_out (fun z hz => (hno z hz).elim) hlocks hce hvn hfc (Option.some.inj hd) hXB hS (Nat.le_of_ble_eq_true rfl) (Nat.le_of_ble_eq_true rfl)
    · have hd := wt_rs_l ho_ hd
      refine lv_iconst (pc := 48) (v := 0) hx hb dX1_after_48 (by decide) ?_
      refine lv_istore (pc := 49) (lv' := [(5, .int (0 : Int32)), (0, .ref o_), (1, .int a0), (2, .int a1), (3, .int a2), (4, .int a3)]) hx hb dX1_after_49 hl (by decide) rfl (fun ls hl => ?_)
      refine lv_ldc (pc := 51) hx hb hown (hts _ q1419) dX1_after_51 ?_
      refine lv_istore (pc := 53) (lv' := [(6, .int (100000 : Int32)), (5, .int (0 : Int32)), (0, .ref o_), (1, .int a0), (2, .int a1), (3, .int a2), (4, .int a3)]) hx hb dX1_after_53 hl (by decide) rfl (fun ls hl => ?_)
      obtain ⟨w62, hL63, hq64⟩ := wt_bd_o hd
      have hX65 : ∀ w62_ : Int32, w62_ = w62 → ∀ (H : Heap) (locs : List Loc) (ls : Array Slot), Hw G A τ H → va_S A s_.heap H locs → lv_has ls 9 [(0, .ref o_), (1, .int a0), (2, .int a1), (3, .int a2), (4, .int a3), (5, .int w62_)] → W p_ l e_ (headSpec (ws_ yX1_after cX1_after 9 (some .int)) ({ frames := 7, cells := 1, slots := 6, locals := 130 })).room s_ m_ ([.ref o_, .int a0, .int a1, .int a2, .int a3] : List Value).toArray below_ meth_ c_ H locs 1 6 (vx_MQ below_ (hXi G A (fun r u => Sum.inl r = out_ ∧ u = τ)) (hXX G A out_) ([.ref o_, .int a0, .int a1, .int a2, .int a3] : List Value).toArray s_ 1 6 A) (F0 m_ 117 ls []) := by
        intro w62_ hw_
        have hd := hq64
        subst hw_
        clear hL63 hq64
        intro H locs ls hW hS hl
        refine lv_iload (pc := 117) hx hb dX1_after_117 (lv_at hl 4 rfl) ?_
        obtain ⟨w85, hj86, hq87⟩ := wt_bd_o hd
        have hX88 : ∀ w85_ : Int32, w85_ = w85 → ∀ (H : Heap) (locs : List Loc) (ls : Array Slot), Hw G A τ H → va_S A s_.heap H locs → lv_has ls 9 [(0, .ref o_), (1, .int a0), (2, .int a1), (3, .int a2)] → W p_ l e_ (headSpec (ws_ yX1_after cX1_after 9 (some .int)) ({ frames := 7, cells := 1, slots := 6, locals := 130 })).room s_ m_ ([.ref o_, .int a0, .int a1, .int a2, .int a3] : List Value).toArray below_ meth_ c_ H locs 1 6 (vx_MQ below_ (hXi G A (fun r u => Sum.inl r = out_ ∧ u = τ)) (hXX G A out_) ([.ref o_, .int a0, .int a1, .int a2, .int a3] : List Value).toArray s_ 1 6 A) (F0 m_ 131 ls [.int w85_]) := by
          intro w85_ hw_
          have hd := hq87
          subst hw_
          clear hj86 hq87
          intro H locs ls hW hS hl
          refine lv_istore (pc := 131) (lv' := [(7, .int w85_), (0, .ref o_), (1, .int a0), (2, .int a1), (3, .int a2)]) hx hb dX1_after_131 hl (by decide) rfl (fun ls hl => ?_)
          refine lv_iload (pc := 133) hx hb dX1_after_133 (lv_at hl 0 rfl) ?_
          refine lv_if_lt (pc := 135) (tgt := 158) hx hb dX1_after_135 (by decide) (fun c90 => ?_) (fun c90 => ?_)
          · have hd := wt_it hd c90
            refine lv_iconst (pc := 158) (v := -1) hx hb dX1_after_158 (by decide) ?_
            refine lv_goto (pc := 159) (tgt := 164) hx hb dX1_after_159 (by decide) ?_
            refine vx_ret ?_
            exact hx_iret hx hb hr rfl hlocks ⟨(Option.some.inj hd), rfl⟩ hW hS dX1_after_164 (Nat.le_of_ble_eq_true rfl) (Nat.le_of_ble_eq_true rfl)
          · have hd := wt_if hd c90
            refine lv_iload (pc := 138) hx hb dX1_after_138 (lv_at hl 0 rfl) ?_
            refine lv_ldcw (pc := 140) hx hb hown (hts _ q1424) dX1_after_140 ?_
            refine lv_icmp_gt (pc := 143) (tgt := 158) hx hb dX1_after_143 (by decide) (fun c91 => ?_) (fun c91 => ?_)
            · have hd := wt_it hd c91
              refine lv_iconst (pc := 158) (v := -1) hx hb dX1_after_158 (by decide) ?_
              refine lv_goto (pc := 159) (tgt := 164) hx hb dX1_after_159 (by decide) ?_
              refine vx_ret ?_
              exact hx_iret hx hb hr rfl hlocks ⟨(Option.some.inj hd), rfl⟩ hW hS dX1_after_164 (Nat.le_of_ble_eq_true rfl) (Nat.le_of_ble_eq_true rfl)
            · have hd := wt_if hd c91
              refine lv_aload_n (pc := 146) hx hb dX1_after_146 rfl (lv_at hl 1 rfl) ?_
              refine lv_iload_n (pc := 147) hx hb dX1_after_147 rfl (lv_at hl 2 rfl) ?_
              refine lv_iload (pc := 148) hx hb dX1_after_148 (lv_at hl 0 rfl) ?_
              refine lv_iload_n (pc := 150) hx hb dX1_after_150 rfl (lv_at hl 4 rfl) ?_
              obtain ⟨h92, hd⟩ := wt_ck_o hd
              obtain ⟨w93, hc94, hd⟩ := wt_bd_o hd
              refine kX1_leftOf (pc := 151) hx hb hml hown hts hC hW hS h92 hc94 hl.1 (Nat.le_of_ble_eq_true rfl) ⟨Nat.le_of_ble_eq_true rfl, Nat.le_of_ble_eq_true rfl⟩ ⟨Nat.le_of_ble_eq_true rfl, Nat.le_of_ble_eq_true rfl⟩ q1420 dX1_after_151 (fun H locs hW hS => ?_)
              refine lv_iload_n (pc := 154) hx hb dX1_after_154 rfl (lv_at hl 3 rfl) ?_
              refine lv_icmp_eq (pc := 155) (tgt := 162) hx hb dX1_after_155 (by decide) (fun c95 => ?_) (fun c95 => ?_)
              · have hd := wt_it hd c95
                refine lv_iload (pc := 162) hx hb dX1_after_162 (lv_at hl 0 rfl) ?_
                refine vx_ret ?_
                exact hx_iret hx hb hr rfl hlocks ⟨(Option.some.inj hd), rfl⟩ hW hS dX1_after_164 (Nat.le_of_ble_eq_true rfl) (Nat.le_of_ble_eq_true rfl)
              · have hd := wt_if hd c95
                refine lv_iconst (pc := 158) (v := -1) hx hb dX1_after_158 (by decide) ?_
                refine lv_goto (pc := 159) (tgt := 164) hx hb dX1_after_159 (by decide) ?_
                refine vx_ret ?_
                exact hx_iret hx hb hr rfl hlocks ⟨(Option.some.inj hd), rfl⟩ hW hS dX1_after_164 (Nat.le_of_ble_eq_true rfl) (Nat.le_of_ble_eq_true rfl)
        have hd := hj86
        refine lv_if_eq (pc := 119) (tgt := 129) hx hb dX1_after_119 (by decide) (fun c89 => ?_) (fun c89 => ?_)
        · have hd := wt_it hd c89
          refine lv_iload (pc := 129) hx hb dX1_after_129 (lv_at hl 5 rfl) ?_
          exact hX88 w62_ (Option.some.inj hd) _ _ _ hW hS (lv_sub hl [0, 1, 2, 3] rfl)
        · have hd := wt_if hd c89
          refine lv_iload (pc := 122) hx hb dX1_after_122 (lv_at hl 5 rfl) ?_
          refine lv_iconst (pc := 124) (v := 1) hx hb dX1_after_124 (by decide) ?_
          refine lv_isub (pc := 125) hx hb dX1_after_125 ?_
          refine lv_goto (pc := 126) (tgt := 131) hx hb dX1_after_126 (by decide) ?_
          exact hX88 (w62_ - (1 : Int32)) (Option.some.inj hd) _ _ _ hW hS (lv_sub hl [0, 1, 2, 3] rfl)
      have hI70 : ∀ (k69 : Nat) (v61 : Int32 × Int32), wt_wh (bX1_after_2 τ o_ a0 a1 a2 a3) k69 v61 = some w62 → ∀ (H : Heap) (locs : List Loc) (ls : Array Slot), Hw G A τ H → va_S A s_.heap H locs → lv_has ls 9 [(0, .ref o_), (1, .int a0), (2, .int a1), (3, .int a2), (4, .int a3), (5, .int v61.1), (6, .int v61.2)] → W p_ l e_ (headSpec (ws_ yX1_after cX1_after 9 (some .int)) ({ frames := 7, cells := 1, slots := 6, locals := 130 })).room s_ m_ ([.ref o_, .int a0, .int a1, .int a2, .int a3] : List Value).toArray below_ meth_ c_ H locs 1 6 (vx_MQ below_ (hXi G A (fun r u => Sum.inl r = out_ ∧ u = τ)) (hXX G A out_) ([.ref o_, .int a0, .int a1, .int a2, .int a3] : List Value).toArray s_ 1 6 A) (F0 m_ 55 ls []) := by
        intro k69
        induction k69 with
        | zero => intro v61 hd; exact absurd hd wt_wh_z
        | succ k69 ih67 =>
          intro v61 hd
          intro H locs ls hW hS hl
          obtain ⟨r68, hd, hk66⟩ := wt_wh_o hd
          unfold bX1_after_2 at hd
          refine lv_iload (pc := 55) hx hb dX1_after_55 (lv_at hl 5 rfl) ?_
          refine lv_iload (pc := 57) hx hb dX1_after_57 (lv_at hl 6 rfl) ?_
          refine lv_icmp_ge (pc := 59) (tgt := 117) hx hb dX1_after_59 (by decide) (fun c71 => ?_) (fun c71 => ?_)
          · have hd := wt_it hd c71
            exact hX65 v61.1 (wt_exit hd hk66) _ _ _ hW hS (lv_sub hl [0, 1, 2, 3, 4, 5] rfl)
          · have hd := wt_if hd c71
            refine lv_iload (pc := 62) hx hb dX1_after_62 (lv_at hl 5 rfl) ?_
            refine lv_iload (pc := 64) hx hb dX1_after_64 (lv_at hl 6 rfl) ?_
            refine lv_iadd (pc := 66) hx hb dX1_after_66 ?_
            refine lv_iconst (pc := 67) (v := 2) hx hb dX1_after_67 (by decide) ?_
            refine lv_idiv (pc := 68) hx hb dX1_after_68 (by decide) ?_
            obtain ⟨n72, en72, hd⟩ := wt_lt_o hd
            refine lv_tope en72 ?_
            refine lv_istore (pc := 69) (lv' := [(7, .int n72), (0, .ref o_), (1, .int a0), (2, .int a1), (3, .int a2), (4, .int a3), (5, .int v61.1), (6, .int v61.2)]) hx hb dX1_after_69 hl (by decide) rfl (fun ls hl => ?_)
            refine lv_aload_n (pc := 71) hx hb dX1_after_71 rfl (lv_at hl 1 rfl) ?_
            refine lv_iload_n (pc := 72) hx hb dX1_after_72 rfl (lv_at hl 2 rfl) ?_
            refine lv_iload (pc := 73) hx hb dX1_after_73 (lv_at hl 0 rfl) ?_
            refine lv_iload_n (pc := 75) hx hb dX1_after_75 rfl (lv_at hl 4 rfl) ?_
            obtain ⟨h73, hd⟩ := wt_ck_o hd
            obtain ⟨w74, hc75, hd⟩ := wt_bd_o hd
            refine kX1_leftOf (pc := 76) hx hb hml hown hts hC hW hS h73 hc75 hl.1 (Nat.le_of_ble_eq_true rfl) ⟨Nat.le_of_ble_eq_true rfl, Nat.le_of_ble_eq_true rfl⟩ ⟨Nat.le_of_ble_eq_true rfl, Nat.le_of_ble_eq_true rfl⟩ q1420 dX1_after_76 (fun H locs hW hS => ?_)
            refine lv_istore (pc := 79) (lv' := [(8, .int w74), (7, .int n72), (0, .ref o_), (1, .int a0), (2, .int a1), (3, .int a2), (4, .int a3), (5, .int v61.1), (6, .int v61.2)]) hx hb dX1_after_79 hl (by decide) rfl (fun ls hl => ?_)
            refine lv_iload (pc := 81) hx hb dX1_after_81 (lv_at hl 6 rfl) ?_
            obtain ⟨w76, hj77, hq78⟩ := wt_bd_o hd
            have hX79 : ∀ w76_ : Unit, (Sum.inl w76_ : (Unit) ⊕ _) = w76 → ∀ (H : Heap) (locs : List Loc) (ls : Array Slot), Hw G A τ H → va_S A s_.heap H locs → lv_has ls 9 [(0, .ref o_), (1, .int a0), (2, .int a1), (3, .int a2), (4, .int a3), (5, .int v61.1), (7, .int n72)] → W p_ l e_ (headSpec (ws_ yX1_after cX1_after 9 (some .int)) ({ frames := 7, cells := 1, slots := 6, locals := 130 })).room s_ m_ ([.ref o_, .int a0, .int a1, .int a2, .int a3] : List Value).toArray below_ meth_ c_ H locs 1 6 (vx_MQ below_ (hXi G A (fun r u => Sum.inl r = out_ ∧ u = τ)) (hXX G A out_) ([.ref o_, .int a0, .int a1, .int a2, .int a3] : List Value).toArray s_ 1 6 A) (F0 m_ 101 ls []) := by
              intro w76_ hw_
              have hd := wt_rs_l hw_ hq78
              clear hj77 hq78
              intro H locs ls hW hS hl
              refine lv_iload (pc := 101) hx hb dX1_after_101 (lv_at hl 6 rfl) ?_
              refine lv_istore (pc := 103) (lv' := [(6, .int n72), (0, .ref o_), (1, .int a0), (2, .int a1), (3, .int a2), (4, .int a3), (5, .int v61.1), (7, .int n72)]) hx hb dX1_after_103 hl (by decide) rfl (fun ls hl => ?_)
              refine lv_goto (pc := 105) (tgt := 114) hx hb dX1_after_105 (by decide) ?_
              refine lv_goto (pc := 114) (tgt := 55) hx hb dX1_after_114 (by decide) ?_
              exact ih67 _ (wt_again hd hk66) _ _ _ hW hS (lv_sub hl [1, 2, 3, 4, 5, 6, 0] rfl)
            have hd := hj77
            refine lv_if_eq (pc := 83) (tgt := 95) hx hb dX1_after_83 (by decide) (fun c80 => ?_) (fun c80 => ?_)
            · have hd := wt_it hd c80
              refine lv_iload (pc := 95) hx hb dX1_after_95 (lv_at hl 0 rfl) ?_
              refine lv_iload_n (pc := 97) hx hb dX1_after_97 rfl (lv_at hl 4 rfl) ?_
              refine lv_icmp_lt (pc := 98) (tgt := 108) hx hb dX1_after_98 (by decide) (fun c81 => ?_) (fun c81 => ?_)
              · have hd := wt_it hd c81
                refine lv_iload (pc := 108) hx hb dX1_after_108 (lv_at hl 1 rfl) ?_
                refine lv_iconst (pc := 110) (v := 1) hx hb dX1_after_110 (by decide) ?_
                refine lv_iadd (pc := 111) hx hb dX1_after_111 ?_
                obtain ⟨n82, en82, hd⟩ := wt_lt_o hd
                refine lv_tope en82 ?_
                refine lv_istore (pc := 112) (lv' := [(5, .int n82), (8, .int w74), (7, .int n72), (0, .ref o_), (1, .int a0), (2, .int a1), (3, .int a2), (4, .int a3), (6, .int v61.2)]) hx hb dX1_after_112 hl (by decide) rfl (fun ls hl => ?_)
                refine lv_goto (pc := 114) (tgt := 55) hx hb dX1_after_114 (by decide) ?_
                have hd := wt_rs_r (Option.some.inj hd) hq78
                exact ih67 _ (wt_again hd hk66) _ _ _ hW hS (lv_sub hl [3, 4, 5, 6, 7, 0, 8] rfl)
              · have hd := wt_if hd c81
                exact hX79 () (Option.some.inj hd) _ _ _ hW hS (lv_sub hl [2, 3, 4, 5, 6, 7, 1] rfl)
            · have hd := wt_if hd c80
              refine lv_iload (pc := 86) hx hb dX1_after_86 (lv_at hl 0 rfl) ?_
              refine lv_iload_n (pc := 88) hx hb dX1_after_88 rfl (lv_at hl 4 rfl) ?_
              refine lv_icmp_le (pc := 89) (tgt := 108) hx hb dX1_after_89 (by decide) (fun c83 => ?_) (fun c83 => ?_)
              · have hd := wt_it hd c83
                refine lv_iload (pc := 108) hx hb dX1_after_108 (lv_at hl 1 rfl) ?_
                refine lv_iconst (pc := 110) (v := 1) hx hb dX1_after_110 (by decide) ?_
                refine lv_iadd (pc := 111) hx hb dX1_after_111 ?_
                obtain ⟨n84, en84, hd⟩ := wt_lt_o hd
                refine lv_tope en84 ?_
                refine lv_istore (pc := 112) (lv' := [(5, .int n84), (8, .int w74), (7, .int n72), (0, .ref o_), (1, .int a0), (2, .int a1), (3, .int a2), (4, .int a3), (6, .int v61.2)]) hx hb dX1_after_112 hl (by decide) rfl (fun ls hl => ?_)
                refine lv_goto (pc := 114) (tgt := 55) hx hb dX1_after_114 (by decide) ?_
                have hd := wt_rs_r (Option.some.inj hd) hq78
                exact ih67 _ (wt_again hd hk66) _ _ _ hW hS (lv_sub hl [3, 4, 5, 6, 7, 0, 8] rfl)
              · have hd := wt_if hd c83
                refine lv_goto (pc := 92) (tgt := 101) hx hb dX1_after_92 (by decide) ?_
                exact hX79 () (Option.some.inj hd) _ _ _ hW hS (lv_sub hl [2, 3, 4, 5, 6, 7, 1] rfl)
      obtain ⟨k69, hL63⟩ := wt_whC_o hL63
      exact hI70 k69 _ hL63 _ _ _ hW hS (lv_sub hl [2, 3, 4, 5, 6, 1, 0] rfl)
  have hd := hj4
  refine lv_if_eq (pc := 4) (tgt := 44) hx hb dX1_after_4 (by decide) (fun c7 => ?_) (fun c7 => ?_)
  · have hd := wt_it hd c7
    exact hX6 () (Option.some.inj hd) _ _ _ hW hS hl
  · have hd := wt_if hd c7
    refine lv_iload_n (pc := 7) hx hb dX1_after_7 rfl (lv_at hl 2 rfl) ?_
    refine lv_if_lt (pc := 8) (tgt := 44) hx hb dX1_after_8 (by decide) (fun c8 => ?_) (fun c8 => ?_)
    · have hd := wt_it hd c8
      exact hX6 () (Option.some.inj hd) _ _ _ hW hS hl
    · have hd := wt_if hd c8
      refine lv_iload_n (pc := 11) hx hb dX1_after_11 rfl (lv_at hl 2 rfl) ?_
      refine lv_sipush (pc := 12) (v := 9999) hx hb dX1_after_12 (by decide) ?_
      refine lv_icmp_gt (pc := 15) (tgt := 44) hx hb dX1_after_15 (by decide) (fun c9 => ?_) (fun c9 => ?_)
      · have hd := wt_it hd c9
        exact hX6 () (Option.some.inj hd) _ _ _ hW hS hl
      · have hd := wt_if hd c9
        refine lv_iload_n (pc := 18) hx hb dX1_after_18 rfl (lv_at hl 3 rfl) ?_
        refine lv_if_lt (pc := 19) (tgt := 44) hx hb dX1_after_19 (by decide) (fun c10 => ?_) (fun c10 => ?_)
        · have hd := wt_it hd c10
          exact hX6 () (Option.some.inj hd) _ _ _ hW hS hl
        · have hd := wt_if hd c10
          refine lv_iload_n (pc := 22) hx hb dX1_after_22 rfl (lv_at hl 3 rfl) ?_
          refine lv_bipush (pc := 23) (v := 60) hx hb dX1_after_23 (by decide) ?_
          refine lv_icmp_gt (pc := 25) (tgt := 44) hx hb dX1_after_25 (by decide) (fun c11 => ?_) (fun c11 => ?_)
          · have hd := wt_it hd c11
            exact hX6 () (Option.some.inj hd) _ _ _ hW hS hl
          · have hd := wt_if hd c11
            refine lv_aload_n (pc := 28) hx hb dX1_after_28 rfl (lv_at hl 0 rfl) ?_
            obtain ⟨ad12, h13, hd⟩ := wt_bd_o hd
            refine hr_get (pc := 29) hx hb hts hown hK hW (hgA_o h13) hf_0_0 (fun _ h => h) q534 dX1_after_29 ?_
            obtain ⟨ad14, h15, hd⟩ := wt_bd_o hd
            refine hr_getN (pc := 32) hx hb hts hown hK hT hW (hgA_o h15) hf_1_1 (fun _ h => h) q125 dX1_after_32 ?_
            refine lv_iload_n (pc := 35) hx hb dX1_after_35 rfl (lv_at hl 1 rfl) ?_
            obtain ⟨z16, h17, hd⟩ := wt_bd_o hd
            obtain ⟨h18, hd⟩ := wt_ck_o hd
            refine hr_iald (pc := 36) hx hb hK hW h17 h18 dX1_after_36 ?_
            refine lv_if_le (pc := 37) (tgt := 44) hx hb dX1_after_37 (by decide) (fun c19 => ?_) (fun c19 => ?_)
            · have hd := wt_it hd c19
              exact hX6 () (Option.some.inj hd) _ _ _ hW hS hl
            · have hd := wt_if hd c19
              refine lv_iconst (pc := 40) (v := 1) hx hb dX1_after_40 (by decide) ?_
              refine lv_goto (pc := 41) (tgt := 45) hx hb dX1_after_41 (by decide) ?_
              obtain ⟨w20, hc21, hd⟩ := wt_bd_o hd
              refine kX1_need (pc := 45) hfl hx hb hml hown hts hC hW hS hc21 hl.1 (Nat.le_of_ble_eq_true rfl) ⟨Nat.le_of_ble_eq_true rfl, Nat.le_of_ble_eq_true rfl⟩ ⟨(Nat.le_of_ble_eq_true rfl), (Nat.le_of_ble_eq_true rfl)⟩ q676 dX1_after_45 (fun x_ hx_ E_ ce_ q9_ H locs hXB hS hce hvn hfc => ?_) (fun o22 ho_ H locs hW hS => ?_)
              · have hd := wt_rs_r hx_ hd
                have hd := wt_rs_r (Option.some.inj hd) hq5
                exact hx_out (fun z hz => (hno z hz).elim) hlocks hce hvn hfc (Option.some.inj hd) hXB hS (Nat.le_of_ble_eq_true rfl) (Nat.le_of_ble_eq_true rfl)
              · have hd := wt_rs_l ho_ hd
                refine lv_iconst (pc := 48) (v := 0) hx hb dX1_after_48 (by decide) ?_
                refine lv_istore (pc := 49) (lv' := [(5, .int (0 : Int32)), (0, .ref o_), (1, .int a0), (2, .int a1), (3, .int a2), (4, .int a3)]) hx hb dX1_after_49 hl (by decide) rfl (fun ls hl => ?_)
                refine lv_ldc (pc := 51) hx hb hown (hts _ q1419) dX1_after_51 ?_
                refine lv_istore (pc := 53) (lv' := [(6, .int (100000 : Int32)), (5, .int (0 : Int32)), (0, .ref o_), (1, .int a0), (2, .int a1), (3, .int a2), (4, .int a3)]) hx hb dX1_after_53 hl (by decide) rfl (fun ls hl => ?_)
                obtain ⟨w24, hL25, hq26⟩ := wt_bd_o hd
                have hX27 : ∀ w24_ : Int32, w24_ = w24 → ∀ (H : Heap) (locs : List Loc) (ls : Array Slot), Hw G A τ H → va_S A s_.heap H locs → lv_has ls 9 [(0, .ref o_), (1, .int a0), (2, .int a1), (3, .int a2), (4, .int a3), (5, .int w24_)] → W p_ l e_ (headSpec (ws_ yX1_after cX1_after 9 (some .int)) ({ frames := 7, cells := 1, slots := 6, locals := 130 })).room s_ m_ ([.ref o_, .int a0, .int a1, .int a2, .int a3] : List Value).toArray below_ meth_ c_ H locs 1 6 (vx_MQ below_ (hXi G A (fun r u => Sum.inl r = out_ ∧ u = τ)) (hXX G A out_) ([.ref o_, .int a0, .int a1, .int a2, .int a3] : List Value).toArray s_ 1 6 A) (F0 m_ 117 ls []) := by
                  intro w24_ hw_
                  have hd := hq26
                  subst hw_
                  clear hL25 hq26
                  intro H locs ls hW hS hl
                  refine lv_iload (pc := 117) hx hb dX1_after_117 (lv_at hl 4 rfl) ?_
                  obtain ⟨w47, hj48, hq49⟩ := wt_bd_o hd
                  have hX50 : ∀ w47_ : Int32, w47_ = w47 → ∀ (H : Heap) (locs : List Loc) (ls : Array Slot), Hw G A τ H → va_S A s_.heap H locs → lv_has ls 9 [(0, .ref o_), (1, .int a0), (2, .int a1), (3, .int a2)] → W p_ l e_ (headSpec (ws_ yX1_after cX1_after 9 (some .int)) ({ frames := 7, cells := 1, slots := 6, locals := 130 })).room s_ m_ ([.ref o_, .int a0, .int a1, .int a2, .int a3] : List Value).toArray below_ meth_ c_ H locs 1 6 (vx_MQ below_ (hXi G A (fun r u => Sum.inl r = out_ ∧ u = τ)) (hXX G A out_) ([.ref o_, .int a0, .int a1, .int a2, .int a3] : List Value).toArray s_ 1 6 A) (F0 m_ 131 ls [.int w47_]) := by
                    intro w47_ hw_
                    have hd := hq49
                    subst hw_
                    clear hj48 hq49
                    intro H locs ls hW hS hl
                    refine lv_istore (pc := 131) (lv' := [(7, .int w47_), (0, .ref o_), (1, .int a0), (2, .int a1), (3, .int a2)]) hx hb dX1_after_131 hl (by decide) rfl (fun ls hl => ?_)
                    refine lv_iload (pc := 133) hx hb dX1_after_133 (lv_at hl 0 rfl) ?_
                    refine lv_if_lt (pc := 135) (tgt := 158) hx hb dX1_after_135 (by decide) (fun c52 => ?_) (fun c52 => ?_)
                    · have hd := wt_it hd c52
                      refine lv_iconst (pc := 158) (v := -1) hx hb dX1_after_158 (by decide) ?_
                      refine lv_goto (pc := 159) (tgt := 164) hx hb dX1_after_159 (by decide) ?_
                      have hd := wt_rs_r (Option.some.inj hd) hq5
                      refine vx_ret ?_
                      exact hx_iret hx hb hr rfl hlocks ⟨(Option.some.inj hd), rfl⟩ hW hS dX1_after_164 (Nat.le_of_ble_eq_true rfl) (Nat.le_of_ble_eq_true rfl)
                    · have hd := wt_if hd c52
                      refine lv_iload (pc := 138) hx hb dX1_after_138 (lv_at hl 0 rfl) ?_
                      refine lv_ldcw (pc := 140) hx hb hown (hts _ q1424) dX1_after_140 ?_
                      refine lv_icmp_gt (pc := 143) (tgt := 158) hx hb dX1_after_143 (by decide) (fun c53 => ?_) (fun c53 => ?_)
                      · have hd := wt_it hd c53
                        refine lv_iconst (pc := 158) (v := -1) hx hb dX1_after_158 (by decide) ?_
                        refine lv_goto (pc := 159) (tgt := 164) hx hb dX1_after_159 (by decide) ?_
                        have hd := wt_rs_r (Option.some.inj hd) hq5
                        refine vx_ret ?_
                        exact hx_iret hx hb hr rfl hlocks ⟨(Option.some.inj hd), rfl⟩ hW hS dX1_after_164 (Nat.le_of_ble_eq_true rfl) (Nat.le_of_ble_eq_true rfl)
                      · have hd := wt_if hd c53
                        refine lv_aload_n (pc := 146) hx hb dX1_after_146 rfl (lv_at hl 1 rfl) ?_
                        refine lv_iload_n (pc := 147) hx hb dX1_after_147 rfl (lv_at hl 2 rfl) ?_
                        refine lv_iload (pc := 148) hx hb dX1_after_148 (lv_at hl 0 rfl) ?_
                        refine lv_iload_n (pc := 150) hx hb dX1_after_150 rfl (lv_at hl 4 rfl) ?_
                        obtain ⟨h54, hd⟩ := wt_ck_o hd
                        obtain ⟨w55, hc56, hd⟩ := wt_bd_o hd
                        refine kX1_leftOf (pc := 151) hx hb hml hown hts hC hW hS h54 hc56 hl.1 (Nat.le_of_ble_eq_true rfl) ⟨Nat.le_of_ble_eq_true rfl, Nat.le_of_ble_eq_true rfl⟩ ⟨Nat.le_of_ble_eq_true rfl, Nat.le_of_ble_eq_true rfl⟩ q1420 dX1_after_151 (fun H locs hW hS => ?_)
                        refine lv_iload_n (pc := 154) hx hb dX1_after_154 rfl (lv_at hl 3 rfl) ?_
                        refine lv_icmp_eq (pc := 155) (tgt := 162) hx hb dX1_after_155 (by decide) (fun c57 => ?_) (fun c57 => ?_)
                        · have hd := wt_it hd c57
                          refine lv_iload (pc := 162) hx hb dX1_after_162 (lv_at hl 0 rfl) ?_
                          have hd := wt_rs_r (Option.some.inj hd) hq5
                          refine vx_ret ?_
                          exact hx_iret hx hb hr rfl hlocks ⟨(Option.some.inj hd), rfl⟩ hW hS dX1_after_164 (Nat.le_of_ble_eq_true rfl) (Nat.le_of_ble_eq_true rfl)
                        · have hd := wt_if hd c57
                          refine lv_iconst (pc := 158) (v := -1) hx hb dX1_after_158 (by decide) ?_
                          refine lv_goto (pc := 159) (tgt := 164) hx hb dX1_after_159 (by decide) ?_
                          have hd := wt_rs_r (Option.some.inj hd) hq5
                          refine vx_ret ?_
                          exact hx_iret hx hb hr rfl hlocks ⟨(Option.some.inj hd), rfl⟩ hW hS dX1_after_164 (Nat.le_of_ble_eq_true rfl) (Nat.le_of_ble_eq_true rfl)
                  have hd := hj48
                  refine lv_if_eq (pc := 119) (tgt := 129) hx hb dX1_after_119 (by decide) (fun c51 => ?_) (fun c51 => ?_)
                  · have hd := wt_it hd c51
                    refine lv_iload (pc := 129) hx hb dX1_after_129 (lv_at hl 5 rfl) ?_
                    exact hX50 w24_ (Option.some.inj hd) _ _ _ hW hS (lv_sub hl [0, 1, 2, 3] rfl)
                  · have hd := wt_if hd c51
                    refine lv_iload (pc := 122) hx hb dX1_after_122 (lv_at hl 5 rfl) ?_
                    refine lv_iconst (pc := 124) (v := 1) hx hb dX1_after_124 (by decide) ?_
                    refine lv_isub (pc := 125) hx hb dX1_after_125 ?_
                    refine lv_goto (pc := 126) (tgt := 131) hx hb dX1_after_126 (by decide) ?_
                    exact hX50 (w24_ - (1 : Int32)) (Option.some.inj hd) _ _ _ hW hS (lv_sub hl [0, 1, 2, 3] rfl)
                have hI32 : ∀ (k31 : Nat) (v23 : Int32 × Int32), wt_wh (bX1_after_1 τ o_ a0 a1 a2 a3) k31 v23 = some w24 → ∀ (H : Heap) (locs : List Loc) (ls : Array Slot), Hw G A τ H → va_S A s_.heap H locs → lv_has ls 9 [(0, .ref o_), (1, .int a0), (2, .int a1), (3, .int a2), (4, .int a3), (5, .int v23.1), (6, .int v23.2)] → W p_ l e_ (headSpec (ws_ yX1_after cX1_after 9 (some .int)) ({ frames := 7, cells := 1, slots := 6, locals := 130 })).room s_ m_ ([.ref o_, .int a0, .int a1, .int a2, .int a3] : List Value).toArray below_ meth_ c_ H locs 1 6 (vx_MQ below_ (hXi G A (fun r u => Sum.inl r = out_ ∧ u = τ)) (hXX G A out_) ([.ref o_, .int a0, .int a1, .int a2, .int a3] : List Value).toArray s_ 1 6 A) (F0 m_ 55 ls []) := by
                  intro k31
                  induction k31 with
                  | zero => intro v23 hd; exact absurd hd wt_wh_z
                  | succ k31 ih29 =>
                    intro v23 hd
                    intro H locs ls hW hS hl
                    obtain ⟨r30, hd, hk28⟩ := wt_wh_o hd
                    unfold bX1_after_1 at hd
                    refine lv_iload (pc := 55) hx hb dX1_after_55 (lv_at hl 5 rfl) ?_
                    refine lv_iload (pc := 57) hx hb dX1_after_57 (lv_at hl 6 rfl) ?_
                    refine lv_icmp_ge (pc := 59) (tgt := 117) hx hb dX1_after_59 (by decide) (fun c33 => ?_) (fun c33 => ?_)
                    · have hd := wt_it hd c33
                      exact hX27 v23.1 (wt_exit hd hk28) _ _ _ hW hS (lv_sub hl [0, 1, 2, 3, 4, 5] rfl)
                    · have hd := wt_if hd c33
                      refine lv_iload (pc := 62) hx hb dX1_after_62 (lv_at hl 5 rfl) ?_
                      refine lv_iload (pc := 64) hx hb dX1_after_64 (lv_at hl 6 rfl) ?_
                      refine lv_iadd (pc := 66) hx hb dX1_after_66 ?_
                      refine lv_iconst (pc := 67) (v := 2) hx hb dX1_after_67 (by decide) ?_
                      refine lv_idiv (pc := 68) hx hb dX1_after_68 (by decide) ?_
                      obtain ⟨n34, en34, hd⟩ := wt_lt_o hd
                      refine lv_tope en34 ?_
                      refine lv_istore (pc := 69) (lv' := [(7, .int n34), (0, .ref o_), (1, .int a0), (2, .int a1), (3, .int a2), (4, .int a3), (5, .int v23.1), (6, .int v23.2)]) hx hb dX1_after_69 hl (by decide) rfl (fun ls hl => ?_)
                      refine lv_aload_n (pc := 71) hx hb dX1_after_71 rfl (lv_at hl 1 rfl) ?_
                      refine lv_iload_n (pc := 72) hx hb dX1_after_72 rfl (lv_at hl 2 rfl) ?_
                      refine lv_iload (pc := 73) hx hb dX1_after_73 (lv_at hl 0 rfl) ?_
                      refine lv_iload_n (pc := 75) hx hb dX1_after_75 rfl (lv_at hl 4 rfl) ?_
                      obtain ⟨h35, hd⟩ := wt_ck_o hd
                      obtain ⟨w36, hc37, hd⟩ := wt_bd_o hd
                      refine kX1_leftOf (pc := 76) hx hb hml hown hts hC hW hS h35 hc37 hl.1 (Nat.le_of_ble_eq_true rfl) ⟨Nat.le_of_ble_eq_true rfl, Nat.le_of_ble_eq_true rfl⟩ ⟨Nat.le_of_ble_eq_true rfl, Nat.le_of_ble_eq_true rfl⟩ q1420 dX1_after_76 (fun H locs hW hS => ?_)
                      refine lv_istore (pc := 79) (lv' := [(8, .int w36), (7, .int n34), (0, .ref o_), (1, .int a0), (2, .int a1), (3, .int a2), (4, .int a3), (5, .int v23.1), (6, .int v23.2)]) hx hb dX1_after_79 hl (by decide) rfl (fun ls hl => ?_)
                      refine lv_iload (pc := 81) hx hb dX1_after_81 (lv_at hl 6 rfl) ?_
                      obtain ⟨w38, hj39, hq40⟩ := wt_bd_o hd
                      have hX41 : ∀ w38_ : Unit, (Sum.inl w38_ : (Unit) ⊕ _) = w38 → ∀ (H : Heap) (locs : List Loc) (ls : Array Slot), Hw G A τ H → va_S A s_.heap H locs → lv_has ls 9 [(0, .ref o_), (1, .int a0), (2, .int a1), (3, .int a2), (4, .int a3), (5, .int v23.1), (7, .int n34)] → W p_ l e_ (headSpec (ws_ yX1_after cX1_after 9 (some .int)) ({ frames := 7, cells := 1, slots := 6, locals := 130 })).room s_ m_ ([.ref o_, .int a0, .int a1, .int a2, .int a3] : List Value).toArray below_ meth_ c_ H locs 1 6 (vx_MQ below_ (hXi G A (fun r u => Sum.inl r = out_ ∧ u = τ)) (hXX G A out_) ([.ref o_, .int a0, .int a1, .int a2, .int a3] : List Value).toArray s_ 1 6 A) (F0 m_ 101 ls []) := by
                        intro w38_ hw_
                        have hd := wt_rs_l hw_ hq40
                        clear hj39 hq40
                        intro H locs ls hW hS hl
                        refine lv_iload (pc := 101) hx hb dX1_after_101 (lv_at hl 6 rfl) ?_
                        refine lv_istore (pc := 103) (lv' := [(6, .int n34), (0, .ref o_), (1, .int a0), (2, .int a1), (3, .int a2), (4, .int a3), (5, .int v23.1), (7, .int n34)]) hx hb dX1_after_103 hl (by decide) rfl (fun ls hl => ?_)
                        refine lv_goto (pc := 105) (tgt := 114) hx hb dX1_after_105 (by decide) ?_
                        refine lv_goto (pc := 114) (tgt := 55) hx hb dX1_after_114 (by decide) ?_
                        exact ih29 _ (wt_again hd hk28) _ _ _ hW hS (lv_sub hl [1, 2, 3, 4, 5, 6, 0] rfl)
                      have hd := hj39
                      refine lv_if_eq (pc := 83) (tgt := 95) hx hb dX1_after_83 (by decide) (fun c42 => ?_) (fun c42 => ?_)
                      · have hd := wt_it hd c42
                        refine lv_iload (pc := 95) hx hb dX1_after_95 (lv_at hl 0 rfl) ?_
                        refine lv_iload_n (pc := 97) hx hb dX1_after_97 rfl (lv_at hl 4 rfl) ?_
                        refine lv_icmp_lt (pc := 98) (tgt := 108) hx hb dX1_after_98 (by decide) (fun c43 => ?_) (fun c43 => ?_)
                        · have hd := wt_it hd c43
                          refine lv_iload (pc := 108) hx hb dX1_after_108 (lv_at hl 1 rfl) ?_
                          refine lv_iconst (pc := 110) (v := 1) hx hb dX1_after_110 (by decide) ?_
                          refine lv_iadd (pc := 111) hx hb dX1_after_111 ?_
                          obtain ⟨n44, en44, hd⟩ := wt_lt_o hd
                          refine lv_tope en44 ?_
                          refine lv_istore (pc := 112) (lv' := [(5, .int n44), (8, .int w36), (7, .int n34), (0, .ref o_), (1, .int a0), (2, .int a1), (3, .int a2), (4, .int a3), (6, .int v23.2)]) hx hb dX1_after_112 hl (by decide) rfl (fun ls hl => ?_)
                          refine lv_goto (pc := 114) (tgt := 55) hx hb dX1_after_114 (by decide) ?_
                          have hd := wt_rs_r (Option.some.inj hd) hq40
                          exact ih29 _ (wt_again hd hk28) _ _ _ hW hS (lv_sub hl [3, 4, 5, 6, 7, 0, 8] rfl)
                        · have hd := wt_if hd c43
                          exact hX41 () (Option.some.inj hd) _ _ _ hW hS (lv_sub hl [2, 3, 4, 5, 6, 7, 1] rfl)
                      · have hd := wt_if hd c42
                        refine lv_iload (pc := 86) hx hb dX1_after_86 (lv_at hl 0 rfl) ?_
                        refine lv_iload_n (pc := 88) hx hb dX1_after_88 rfl (lv_at hl 4 rfl) ?_
                        refine lv_icmp_le (pc := 89) (tgt := 108) hx hb dX1_after_89 (by decide) (fun c45 => ?_) (fun c45 => ?_)
                        · have hd := wt_it hd c45
                          refine lv_iload (pc := 108) hx hb dX1_after_108 (lv_at hl 1 rfl) ?_
                          refine lv_iconst (pc := 110) (v := 1) hx hb dX1_after_110 (by decide) ?_
                          refine lv_iadd (pc := 111) hx hb dX1_after_111 ?_
                          obtain ⟨n46, en46, hd⟩ := wt_lt_o hd
                          refine lv_tope en46 ?_
                          refine lv_istore (pc := 112) (lv' := [(5, .int n46), (8, .int w36), (7, .int n34), (0, .ref o_), (1, .int a0), (2, .int a1), (3, .int a2), (4, .int a3), (6, .int v23.2)]) hx hb dX1_after_112 hl (by decide) rfl (fun ls hl => ?_)
                          refine lv_goto (pc := 114) (tgt := 55) hx hb dX1_after_114 (by decide) ?_
                          have hd := wt_rs_r (Option.some.inj hd) hq40
                          exact ih29 _ (wt_again hd hk28) _ _ _ hW hS (lv_sub hl [3, 4, 5, 6, 7, 0, 8] rfl)
                        · have hd := wt_if hd c45
                          refine lv_goto (pc := 92) (tgt := 101) hx hb dX1_after_92 (by decide) ?_
                          exact hX41 () (Option.some.inj hd) _ _ _ hW hS (lv_sub hl [2, 3, 4, 5, 6, 7, 1] rfl)
                obtain ⟨k31, hL25⟩ := wt_whC_o hL25
                exact hI32 k31 _ hL25 _ _ _ hW hS (lv_sub hl [2, 3, 4, 5, 6, 1, 0] rfl)
theorem kX1_after {p : Program} {l : Launch} {e : Env} {R : Room} {s : State} {m : MethodId} {args : Array Value} {below : List Frame} {meth : Method} {c : Code} {H : Heap} {locs : List Loc} {cells slots : Nat} {Q : State → Prop} {cc : ByteArray} {pc : Nat} {ls : Array Slot} {rest : List Value} {nL : Nat} {own : String} {index : Nat} {G : HG} {A : Nat → Prop} {τ : HP} {o_ : Nat} {a0 : Int32} {a1 : Int32} {a2 : Int32} {a3 : Int32} {out_ : (Int32) ⊕ (Nat × Nat × HP)} (hfl : l.stackTraces = false) (hx : p.tables.exec = Jvm.exec) (hb : c.code = cc) (hml : c.maxLocals = nL) (hown : s.vm.findClass own = some m.cls) (hts : ∀ w ∈ lw_all, w.before args s = true) (hC : Hcx G A s) (hW : Hw G A τ H) (hS : va_S A s.heap H locs) (hrc : hcl τ o_ = some 0) (hd : eX1_after τ o_ a0 a1 a2 a3 = some out_) (hsz : ls.size = nL) (hrm : (rest.map fun v => v.category).sum ≤ 8) (hR : 8 ≤ R.frames ∧ 158 ≤ R.locals) (hcs : (cells + 1) ≤ R.cells ∧ (slots + 6) ≤ R.slots) (hlk : Cond.methodLink own index yX1_after ∈ lw_all) (hdg : decode cc pc = .ok (.invokevirtual index, 3)) (kx : ∀ x_ : Nat × Nat × HP, Sum.inr x_ = out_ → ∀ (E : String) (ce : Cell) (q9 : Addr) (H1 : Heap) (locs1 : List Loc), hXb G A E q9 x_ H1 → va_S A s.heap H1 locs1 → H1[q9]? = some ce → ce.vm = .none → s.vm.findClass E = some ce.cls → vx_W p l e R s m args below meth c H1 locs1 (cells + 1) (slots + 6) Q (F0 m pc ls rest) q9) (kk : ∀ o_1 : Int32, Sum.inl o_1 = out_ → ∀ (H1 : Heap) (locs1 : List Loc), Hw G A τ H1 → va_S A s.heap H1 locs1 → W p l e R s m args below meth c H1 locs1 (cells + 1) (slots + 6) Q (F0 m (pc + 3) ls (.int o_1 :: rest))) : W p l e R s m args below meth c H locs cells slots Q (F0 m pc ls (.int a3 :: .int a2 :: .int a1 :: .int a0 :: .ref o_ :: rest)) := by
  refine vx_calli (vx_runV (As := [.int a0, .int a1, .int a2, .int a3]) (rest := rest) ⟨hx, hb, hml, hown, hts⟩ (wX1_after l hfl hd) (cwV 4 hts (lw_V hlk q1416 q1417 q66 q1418) rfl rfl rfl (by decide +kernel) hR) (hr_preV hC hW hS hrc rfl rfl) rfl rfl hsz rfl (lv_room hrm) hdg hcs) hS (fun _ _ h => h) (fun _ h => h) (fun _ _ h => h) (fun E ce q9 u t H1 locs1 ht hvm hp hB hz hk hS1 hce hvn hfc => ?_) (fun r u t H1 locs1 ht hvm hp hB hz hk hS1 => ?_)
  · rw [ht] at hB
    exact kx u hp E ce q9 H1 locs1 hB hS1 hce hvn hfc
  · have hW1 : Hw G A u t.heap := hB
    rw [ht] at hW1
    obtain ⟨hp, rfl⟩ := hp
    exact kk r hp H1 locs1 hW1 hS1
noncomputable def eX1_seat (τ : HP) (o_ : Nat) (a0 : Int32) : Option ((Int32 × HP) ⊕ (Nat × Nat × HP)) :=
  wt_bd (if a0 < 0 then (some (.inl ())) else (if (1024 : Int32) ≤ a0 then (some (.inl ())) else (wt_bd (eX1_need τ (1 : Int32)) fun w7 => wt_rs w7 (fun o9 => wt_bd (hgA τ o_ [0] 1) fun ad10 => wt_bd (hgI τ ad10 [2] 3) fun f12 => if f12 = (40 : Int32) then (some (.inr (.inl ((-1 : Int32), τ)))) else (wt_bd (hgA τ o_ [0] 1) fun ad15 => wt_bd (hgA τ ad15 [2] 2) fun ad17 => wt_bd (hgA τ o_ [0] 1) fun ad19 => wt_bd (hgI τ ad19 [2] 3) fun f21 => wt_bd (haI τ ad17 0) fun z23 => wt_ck (vp_in f21 z23.1) <| wt_lt (hst τ ad17 (.inl (0, z23.1, .inl (upd z23.2 f21.toNatClampNeg a0)))) fun τ26 => wt_bd (hgA τ26 o_ [0] 1) fun ad27 => wt_bd (hgI τ26 ad27 [2] 3) fun f29 => wt_bd (hp τ26 ad27 [2] 3 (.int ((f29 + (1 : Int32))))) fun τ31 => wt_bd (hgA τ31 o_ [0] 1) fun ad33 => wt_bd (hgI τ31 ad33 [2] 3) fun f35 => some (.inr (.inl (f35, τ31))))) (fun x_ => some (.inr (.inr x_)))))) fun w1 => wt_rs w1 (fun w1 => wt_bd (eX1_need τ (0 : Int32)) fun w37 => wt_rs w37 (fun o39 => wt_bd (hgA τ o_ [0] 1) fun ad40 => wt_bd (hgI τ ad40 [2] 3) fun f42 => if f42 = (40 : Int32) then (some (.inl ((-1 : Int32), τ))) else (wt_bd (hgA τ o_ [0] 1) fun ad45 => wt_bd (hgA τ ad45 [2] 2) fun ad47 => wt_bd (hgA τ o_ [0] 1) fun ad49 => wt_bd (hgI τ ad49 [2] 3) fun f51 => wt_bd (haI τ ad47 0) fun z53 => wt_ck (vp_in f51 z53.1) <| wt_lt (hst τ ad47 (.inl (0, z53.1, .inl (upd z53.2 f51.toNatClampNeg a0)))) fun τ56 => wt_bd (hgA τ56 o_ [0] 1) fun ad57 => wt_bd (hgI τ56 ad57 [2] 3) fun f59 => wt_bd (hp τ56 ad57 [2] 3 (.int ((f59 + (1 : Int32))))) fun τ61 => wt_bd (hgA τ61 o_ [0] 1) fun ad63 => wt_bd (hgI τ61 ad63 [2] 3) fun f65 => some (.inl (f65, τ61)))) (fun x_ => some (.inr x_))) (fun z_ => some z_)
set_option maxHeartbeats 4000000 in
theorem wX1_seat (l : Launch) (hfl : l.stackTraces = false) {G : HG} {A : Nat → Prop} {τ : HP} {o_ : Nat} {a0 : Int32} {out_ : (Int32 × HP) ⊕ (Nat × Nat × HP)} (hd : eX1_seat τ o_ a0 = some out_) : vx_Met l yX1_seat (ws_ yX1_seat cX1_seat 2 (some .int)) ({ frames := 7, cells := 1, slots := 6, locals := 130 }) (hPc G A τ [.ref o_, .int a0]) (hXi G A (fun r u => Sum.inl (r, u) = out_)) (hXX G A out_) 1 6 A := by
  refine vx_ofW (cc := cX1_seat) (maxL := 2) (ret := (some .int)) (by decide) rfl ?_
  intro p_ e_ s_ m_ args_ below_ meth_ c_ s₁_ B hml hno hv
  obtain ⟨rfl, hW, hC⟩ := hv
  have hx := B.exec
  have hb := B.bytes
  have hr := B.returns
  have hts := atoms_spec (ws := (ws_ yX1_seat cX1_seat 2 (some .int))) B.pre
  have hts : ∀ w ∈ lw_all, w.before _ s_ = true := fun w h => hts w (List.mem_cons_of_mem _ h)
  have hown : s_.vm.findClass RX1 = some m_.cls := findClass_of_methodNamed B.named
  have hlocks := B.notSynchronized
  have hK := hC.1
  have hT := hC.2.1
  have hL := hC.2.2.1
  have hZ := hC.2.2.2.2.1
  have hA := hC.2.2.2.2.2
  have hS : va_S A s_.heap s_.heap [] := va_S.rf
  have hl := lv_entry ([.ref o_, .int a0]) (n := 2) (Nat.le_of_ble_eq_true rfl)
  rw [lg_entry_eq]
  generalize (lg_sl ([.ref o_, .int a0]) ++ List.replicate (2 - (lg_sl ([.ref o_, .int a0])).length) Slot.unset).toArray = ls at hl ⊢
  have hl : lv_has ls 2 [(0, .ref o_), (1, .int a0)] := hl
  unfold eX1_seat at hd
  refine lv_iload_n (pc := 0) hx hb dX1_seat_0 rfl (lv_at hl 1 rfl) ?_
  obtain ⟨w1, hj2, hq3⟩ := wt_bd_o hd
  have hX4 : ∀ w1_ : Unit, (Sum.inl w1_ : (Unit) ⊕ _) = w1 → ∀ (H : Heap) (locs : List Loc) (ls : Array Slot), Hw G A τ H → va_S A s_.heap H locs → lv_has ls 2 [(0, .ref o_), (1, .int a0)] → W p_ l e_ (headSpec (ws_ yX1_seat cX1_seat 2 (some .int)) ({ frames := 7, cells := 1, slots := 6, locals := 130 })).room s_ m_ ([.ref o_, .int a0] : List Value).toArray below_ meth_ c_ H locs 0 0 (vx_MQ below_ (hXi G A (fun r u => Sum.inl (r, u) = out_)) (hXX G A out_) ([.ref o_, .int a0] : List Value).toArray s_ 1 6 A) (F0 m_ 15 ls []) := by
    intro w1_ hw_
    have hd := wt_rs_l hw_ hq3
    clear hj2 hq3
    intro H locs ls hW hS hl
    refine lv_iconst (pc := 15) (v := 0) hx hb dX1_seat_15 (by decide) ?_
    obtain ⟨w37, hc38, hd⟩ := wt_bd_o hd
    refine kX1_need (pc := 16) hfl hx hb hml hown hts hC hW hS hc38 hl.1 (Nat.le_of_ble_eq_true rfl) ⟨Nat.le_of_ble_eq_true rfl, Nat.le_of_ble_eq_true rfl⟩ ⟨(Nat.le_of_ble_eq_true rfl), (Nat.le_of_ble_eq_true rfl)⟩ q676 dX1_seat_16 (fun x_ hx_ E_ ce_ q9_ H locs hXB hS hce hvn hfc => ?_) (fun o39 ho_ H locs hW hS => ?_)
    · have hd := wt_rs_r hx_ hd
      exact hx_out (fun z hz => (hno z hz).elim) hlocks hce hvn hfc (Option.some.inj hd) hXB hS (Nat.le_of_ble_eq_true rfl) (Nat.le_of_ble_eq_true rfl)
    · have hd := wt_rs_l ho_ hd
      refine lv_aload_n (pc := 19) hx hb dX1_seat_19 rfl (lv_at hl 0 rfl) ?_
      obtain ⟨ad40, h41, hd⟩ := wt_bd_o hd
      refine hr_get (pc := 20) hx hb hts hown hK hW (hgA_o h41) hf_0_1 (fun _ h => h) q536 dX1_seat_20 ?_
      obtain ⟨f42, h43, hd⟩ := wt_bd_o hd
      refine hr_getN (pc := 23) hx hb hts hown hK hT hW (hgI_o h43) hf_2_3 (fun _ h => h) q521 dX1_seat_23 ?_
      refine lv_bipush (pc := 26) (v := 40) hx hb dX1_seat_26 (by decide) ?_
      refine lv_icmp_ne (pc := 28) (tgt := 33) hx hb dX1_seat_28 (by decide) (fun c44 => ?_) (fun c44 => ?_)
      · have hd := wt_if hd c44
        refine lv_aload_n (pc := 33) hx hb dX1_seat_33 rfl (lv_at hl 0 rfl) ?_
        obtain ⟨ad45, h46, hd⟩ := wt_bd_o hd
        refine hr_get (pc := 34) hx hb hts hown hK hW (hgA_o h46) hf_0_1 (fun _ h => h) q536 dX1_seat_34 ?_
        obtain ⟨ad47, h48, hd⟩ := wt_bd_o hd
        refine hr_getN (pc := 37) hx hb hts hown hK hT hW (hgA_o h48) hf_2_2 (fun _ h => h) q519 dX1_seat_37 ?_
        refine lv_aload_n (pc := 40) hx hb dX1_seat_40 rfl (lv_at hl 0 rfl) ?_
        obtain ⟨ad49, h50, hd⟩ := wt_bd_o hd
        refine hr_get (pc := 41) hx hb hts hown hK hW (hgA_o h50) hf_0_1 (fun _ h => h) q536 dX1_seat_41 ?_
        obtain ⟨f51, h52, hd⟩ := wt_bd_o hd
        refine hr_getN (pc := 44) hx hb hts hown hK hT hW (hgI_o h52) hf_2_3 (fun _ h => h) q521 dX1_seat_44 ?_
        refine lv_iload_n (pc := 47) hx hb dX1_seat_47 rfl (lv_at hl 1 rfl) ?_
        obtain ⟨z53, h54, hd⟩ := wt_bd_o hd
        obtain ⟨h55, hd⟩ := wt_ck_o hd
        obtain ⟨τ56, eτ56, hd⟩ := wt_lt_o hd
        refine hr_iast (pc := 48) hx hb hK hW hS h54 h55 eτ56 dX1_seat_48 (fun H locs hW hS => ?_)
        refine lv_aload_n (pc := 49) hx hb dX1_seat_49 rfl (lv_at hl 0 rfl) ?_
        obtain ⟨ad57, h58, hd⟩ := wt_bd_o hd
        refine hr_get (pc := 50) hx hb hts hown hK hW (hgA_o h58) hf_0_1 (fun _ h => h) q536 dX1_seat_50 ?_
        refine lv_dup (pc := 53) hx hb dX1_seat_53 rfl ?_
        obtain ⟨f59, h60, hd⟩ := wt_bd_o hd
        refine hr_getN (pc := 54) hx hb hts hown hK hT hW (hgI_o h60) hf_2_3 (fun _ h => h) q521 dX1_seat_54 ?_
        refine lv_iconst (pc := 57) (v := 1) hx hb dX1_seat_57 (by decide) ?_
        refine lv_iadd (pc := 58) hx hb dX1_seat_58 ?_
        obtain ⟨τ61, h62, hd⟩ := wt_bd_o hd
        refine hr_putN (pc := 59) (ty := .int) hx hb hts hown hK hT hW hS h62 hf_2_3 (by decide +kernel) rfl rfl (fun _ h => h) q521 dX1_seat_59 (fun H locs hW hS => ?_)
        refine lv_aload_n (pc := 62) hx hb dX1_seat_62 rfl (lv_at hl 0 rfl) ?_
        obtain ⟨ad63, h64, hd⟩ := wt_bd_o hd
        refine hr_get (pc := 63) hx hb hts hown hK hW (hgA_o h64) hf_0_1 (fun _ h => h) q536 dX1_seat_63 ?_
        obtain ⟨f65, h66, hd⟩ := wt_bd_o hd
        refine hr_getN (pc := 66) hx hb hts hown hK hT hW (hgI_o h66) hf_2_3 (fun _ h => h) q521 dX1_seat_66 ?_
        refine vx_ret ?_
        exact hx_iret hx hb hr rfl hlocks (Option.some.inj hd) hW hS dX1_seat_69 (Nat.le_of_ble_eq_true rfl) (Nat.le_of_ble_eq_true rfl)
      · have hd := wt_it hd c44
        refine lv_iconst (pc := 31) (v := -1) hx hb dX1_seat_31 (by decide) ?_
        refine vx_ret ?_
        exact hx_iret hx hb hr rfl hlocks (Option.some.inj hd) hW hS dX1_seat_32 (Nat.le_of_ble_eq_true rfl) (Nat.le_of_ble_eq_true rfl)
  have hd := hj2
  refine lv_if_lt (pc := 1) (tgt := 15) hx hb dX1_seat_1 (by decide) (fun c5 => ?_) (fun c5 => ?_)
  · have hd := wt_it hd c5
    exact hX4 () (Option.some.inj hd) _ _ _ hW hS hl
  · have hd := wt_if hd c5
    refine lv_iload_n (pc := 4) hx hb dX1_seat_4 rfl (lv_at hl 1 rfl) ?_
    refine lv_sipush (pc := 5) (v := 1024) hx hb dX1_seat_5 (by decide) ?_
    refine lv_icmp_ge (pc := 8) (tgt := 15) hx hb dX1_seat_8 (by decide) (fun c6 => ?_) (fun c6 => ?_)
    · have hd := wt_it hd c6
      exact hX4 () (Option.some.inj hd) _ _ _ hW hS hl
    · have hd := wt_if hd c6
      refine lv_iconst (pc := 11) (v := 1) hx hb dX1_seat_11 (by decide) ?_
      refine lv_goto (pc := 12) (tgt := 16) hx hb dX1_seat_12 (by decide) ?_
      obtain ⟨w7, hc8, hd⟩ := wt_bd_o hd
      refine kX1_need (pc := 16) hfl hx hb hml hown hts hC hW hS hc8 hl.1 (Nat.le_of_ble_eq_true rfl) ⟨Nat.le_of_ble_eq_true rfl, Nat.le_of_ble_eq_true rfl⟩ ⟨(Nat.le_of_ble_eq_true rfl), (Nat.le_of_ble_eq_true rfl)⟩ q676 dX1_seat_16 (fun x_ hx_ E_ ce_ q9_ H locs hXB hS hce hvn hfc => ?_) (fun o9 ho_ H locs hW hS => ?_)
      · have hd := wt_rs_r hx_ hd
        have hd := wt_rs_r (Option.some.inj hd) hq3
        exact hx_out (fun z hz => (hno z hz).elim) hlocks hce hvn hfc (Option.some.inj hd) hXB hS (Nat.le_of_ble_eq_true rfl) (Nat.le_of_ble_eq_true rfl)
      · have hd := wt_rs_l ho_ hd
        refine lv_aload_n (pc := 19) hx hb dX1_seat_19 rfl (lv_at hl 0 rfl) ?_
        obtain ⟨ad10, h11, hd⟩ := wt_bd_o hd
        refine hr_get (pc := 20) hx hb hts hown hK hW (hgA_o h11) hf_0_1 (fun _ h => h) q536 dX1_seat_20 ?_
        obtain ⟨f12, h13, hd⟩ := wt_bd_o hd
        refine hr_getN (pc := 23) hx hb hts hown hK hT hW (hgI_o h13) hf_2_3 (fun _ h => h) q521 dX1_seat_23 ?_
        refine lv_bipush (pc := 26) (v := 40) hx hb dX1_seat_26 (by decide) ?_
        refine lv_icmp_ne (pc := 28) (tgt := 33) hx hb dX1_seat_28 (by decide) (fun c14 => ?_) (fun c14 => ?_)
        · have hd := wt_if hd c14
          refine lv_aload_n (pc := 33) hx hb dX1_seat_33 rfl (lv_at hl 0 rfl) ?_
          obtain ⟨ad15, h16, hd⟩ := wt_bd_o hd
          refine hr_get (pc := 34) hx hb hts hown hK hW (hgA_o h16) hf_0_1 (fun _ h => h) q536 dX1_seat_34 ?_
          obtain ⟨ad17, h18, hd⟩ := wt_bd_o hd
          refine hr_getN (pc := 37) hx hb hts hown hK hT hW (hgA_o h18) hf_2_2 (fun _ h => h) q519 dX1_seat_37 ?_
          refine lv_aload_n (pc := 40) hx hb dX1_seat_40 rfl (lv_at hl 0 rfl) ?_
          obtain ⟨ad19, h20, hd⟩ := wt_bd_o hd
          refine hr_get (pc := 41) hx hb hts hown hK hW (hgA_o h20) hf_0_1 (fun _ h => h) q536 dX1_seat_41 ?_
          obtain ⟨f21, h22, hd⟩ := wt_bd_o hd
          refine hr_getN (pc := 44) hx hb hts hown hK hT hW (hgI_o h22) hf_2_3 (fun _ h => h) q521 dX1_seat_44 ?_
          refine lv_iload_n (pc := 47) hx hb dX1_seat_47 rfl (lv_at hl 1 rfl) ?_
          obtain ⟨z23, h24, hd⟩ := wt_bd_o hd
          obtain ⟨h25, hd⟩ := wt_ck_o hd
          obtain ⟨τ26, eτ26, hd⟩ := wt_lt_o hd
          refine hr_iast (pc := 48) hx hb hK hW hS h24 h25 eτ26 dX1_seat_48 (fun H locs hW hS => ?_)
          refine lv_aload_n (pc := 49) hx hb dX1_seat_49 rfl (lv_at hl 0 rfl) ?_
          obtain ⟨ad27, h28, hd⟩ := wt_bd_o hd
          refine hr_get (pc := 50) hx hb hts hown hK hW (hgA_o h28) hf_0_1 (fun _ h => h) q536 dX1_seat_50 ?_
          refine lv_dup (pc := 53) hx hb dX1_seat_53 rfl ?_
          obtain ⟨f29, h30, hd⟩ := wt_bd_o hd
          refine hr_getN (pc := 54) hx hb hts hown hK hT hW (hgI_o h30) hf_2_3 (fun _ h => h) q521 dX1_seat_54 ?_
          refine lv_iconst (pc := 57) (v := 1) hx hb dX1_seat_57 (by decide) ?_
          refine lv_iadd (pc := 58) hx hb dX1_seat_58 ?_
          obtain ⟨τ31, h32, hd⟩ := wt_bd_o hd
          refine hr_putN (pc := 59) (ty := .int) hx hb hts hown hK hT hW hS h32 hf_2_3 (by decide +kernel) rfl rfl (fun _ h => h) q521 dX1_seat_59 (fun H locs hW hS => ?_)
          refine lv_aload_n (pc := 62) hx hb dX1_seat_62 rfl (lv_at hl 0 rfl) ?_
          obtain ⟨ad33, h34, hd⟩ := wt_bd_o hd
          refine hr_get (pc := 63) hx hb hts hown hK hW (hgA_o h34) hf_0_1 (fun _ h => h) q536 dX1_seat_63 ?_
          obtain ⟨f35, h36, hd⟩ := wt_bd_o hd
          refine hr_getN (pc := 66) hx hb hts hown hK hT hW (hgI_o h36) hf_2_3 (fun _ h => h) q521 dX1_seat_66 ?_
          have hd := wt_rs_r (Option.some.inj hd) hq3
          refine vx_ret ?_
          exact hx_iret hx hb hr rfl hlocks (Option.some.inj hd) hW hS dX1_seat_69 (Nat.le_of_ble_eq_true rfl) (Nat.le_of_ble_eq_true rfl)
        · have hd := wt_it hd c14
          refine lv_iconst (pc := 31) (v := -1) hx hb dX1_seat_31 (by decide) ?_
          have hd := wt_rs_r (Option.some.inj hd) hq3
          refine vx_ret ?_
          exact hx_iret hx hb hr rfl hlocks (Option.some.inj hd) hW hS dX1_seat_32 (Nat.le_of_ble_eq_true rfl) (Nat.le_of_ble_eq_true rfl)
theorem kX1_seat {p : Program} {l : Launch} {e : Env} {R : Room} {s : State} {m : MethodId} {args : Array Value} {below : List Frame} {meth : Method} {c : Code} {H : Heap} {locs : List Loc} {cells slots : Nat} {Q : State → Prop} {cc : ByteArray} {pc : Nat} {ls : Array Slot} {rest : List Value} {nL : Nat} {own : String} {index : Nat} {G : HG} {A : Nat → Prop} {τ : HP} {o_ : Nat} {a0 : Int32} {out_ : (Int32 × HP) ⊕ (Nat × Nat × HP)} (hfl : l.stackTraces = false) (hx : p.tables.exec = Jvm.exec) (hb : c.code = cc) (hml : c.maxLocals = nL) (hown : s.vm.findClass own = some m.cls) (hts : ∀ w ∈ lw_all, w.before args s = true) (hC : Hcx G A s) (hW : Hw G A τ H) (hS : va_S A s.heap H locs) (hrc : hcl τ o_ = some 0) (hd : eX1_seat τ o_ a0 = some out_) (hsz : ls.size = nL) (hrm : (rest.map fun v => v.category).sum ≤ 8) (hR : 8 ≤ R.frames ∧ 151 ≤ R.locals) (hcs : (cells + 1) ≤ R.cells ∧ (slots + 6) ≤ R.slots) (hlk : Cond.methodLink own index yX1_seat ∈ lw_all) (hdg : decode cc pc = .ok (.invokevirtual index, 3)) (kx : ∀ x_ : Nat × Nat × HP, Sum.inr x_ = out_ → ∀ (E : String) (ce : Cell) (q9 : Addr) (H1 : Heap) (locs1 : List Loc), hXb G A E q9 x_ H1 → va_S A s.heap H1 locs1 → H1[q9]? = some ce → ce.vm = .none → s.vm.findClass E = some ce.cls → vx_W p l e R s m args below meth c H1 locs1 (cells + 1) (slots + 6) Q (F0 m pc ls rest) q9) (kk : ∀ o_1 : Int32 × HP, Sum.inl o_1 = out_ → ∀ (H1 : Heap) (locs1 : List Loc), Hw G A o_1.2 H1 → va_S A s.heap H1 locs1 → W p l e R s m args below meth c H1 locs1 (cells + 1) (slots + 6) Q (F0 m (pc + 3) ls (.int o_1.1 :: rest))) : W p l e R s m args below meth c H locs cells slots Q (F0 m pc ls (.int a0 :: .ref o_ :: rest)) := by
  refine vx_calli (vx_runV (As := [.int a0]) (rest := rest) ⟨hx, hb, hml, hown, hts⟩ (wX1_seat l hfl hd) (cwV 1 hts (lw_V hlk q1429 q1430 q66 q1431) rfl rfl rfl (by decide +kernel) hR) (hr_preV hC hW hS hrc rfl rfl) rfl rfl hsz rfl (lv_room hrm) hdg hcs) hS (fun _ _ h => h) (fun _ h => h) (fun _ _ h => h) (fun E ce q9 u t H1 locs1 ht hvm hp hB hz hk hS1 hce hvn hfc => ?_) (fun r u t H1 locs1 ht hvm hp hB hz hk hS1 => ?_)
  · rw [ht] at hB
    exact kx u hp E ce q9 H1 locs1 hB hS1 hce hvn hfc
  · have hW1 : Hw G A u t.heap := hB
    rw [ht] at hW1
    exact kk (r, u) hp H1 locs1 hW1 hS1
noncomputable def eX1_share (τ : HP) (o_ : Nat) (a0 : Int32) : Option ((Int32) ⊕ (Nat × Nat × HP)) :=
  wt_bd (eX1_isSort a0) fun w1 => wt_bd (eX1_need τ w1) fun w3 => wt_rs w3 (fun o5 => wt_bd (hgA τ o_ [0] 1) fun ad6 => wt_ck (hcl τ ad6 = some 2) <| wt_bd (eX3_seatsOf τ ad6 ((1 : Int32) <<< (a0 &&& 31))) fun w9 => some (.inl w9)) (fun x_ => some (.inr x_))
set_option maxHeartbeats 4000000 in
theorem wX1_share (l : Launch) (hfl : l.stackTraces = false) {G : HG} {A : Nat → Prop} {τ : HP} {o_ : Nat} {a0 : Int32} {out_ : (Int32) ⊕ (Nat × Nat × HP)} (hd : eX1_share τ o_ a0 = some out_) : vx_Met l yX1_share (ws_ yX1_share cX1_share 2 (some .int)) ({ frames := 7, cells := 1, slots := 6, locals := 130 }) (hPc G A τ [.ref o_, .int a0]) (hXi G A (fun r u => Sum.inl r = out_ ∧ u = τ)) (hXX G A out_) 1 6 A := by
  refine vx_ofW (cc := cX1_share) (maxL := 2) (ret := (some .int)) (by decide) rfl ?_
  intro p_ e_ s_ m_ args_ below_ meth_ c_ s₁_ B hml hno hv
  obtain ⟨rfl, hW, hC⟩ := hv
  have hx := B.exec
  have hb := B.bytes
  have hr := B.returns
  have hts := atoms_spec (ws := (ws_ yX1_share cX1_share 2 (some .int))) B.pre
  have hts : ∀ w ∈ lw_all, w.before _ s_ = true := fun w h => hts w (List.mem_cons_of_mem _ h)
  have hown : s_.vm.findClass RX1 = some m_.cls := findClass_of_methodNamed B.named
  have hlocks := B.notSynchronized
  have hK := hC.1
  have hT := hC.2.1
  have hL := hC.2.2.1
  have hZ := hC.2.2.2.2.1
  have hA := hC.2.2.2.2.2
  have hS : va_S A s_.heap s_.heap [] := va_S.rf
  have hl := lv_entry ([.ref o_, .int a0]) (n := 2) (Nat.le_of_ble_eq_true rfl)
  rw [lg_entry_eq]
  generalize (lg_sl ([.ref o_, .int a0]) ++ List.replicate (2 - (lg_sl ([.ref o_, .int a0])).length) Slot.unset).toArray = ls at hl ⊢
  have hl : lv_has ls 2 [(0, .ref o_), (1, .int a0)] := hl
  unfold eX1_share at hd
  refine lv_iload_n (pc := 0) hx hb dX1_share_0 rfl (lv_at hl 1 rfl) ?_
  obtain ⟨w1, hc2, hd⟩ := wt_bd_o hd
  refine kX1_isSort (pc := 1) hx hb hml hown hts hC hW hS hc2 hl.1 (Nat.le_of_ble_eq_true rfl) ⟨Nat.le_of_ble_eq_true rfl, Nat.le_of_ble_eq_true rfl⟩ ⟨Nat.le_of_ble_eq_true rfl, Nat.le_of_ble_eq_true rfl⟩ q978 dX1_share_1 (fun H locs hW hS => ?_)
  obtain ⟨w3, hc4, hd⟩ := wt_bd_o hd
  refine kX1_need (pc := 4) hfl hx hb hml hown hts hC hW hS hc4 hl.1 (Nat.le_of_ble_eq_true rfl) ⟨Nat.le_of_ble_eq_true rfl, Nat.le_of_ble_eq_true rfl⟩ ⟨(Nat.le_of_ble_eq_true rfl), (Nat.le_of_ble_eq_true rfl)⟩ q676 dX1_share_4 (fun x_ hx_ E_ ce_ q9_ H locs hXB hS hce hvn hfc => ?_) (fun o5 ho_ H locs hW hS => ?_)
  · have hd := wt_rs_r hx_ hd
    exact hx_out (fun z hz => (hno z hz).elim) hlocks hce hvn hfc (Option.some.inj hd) hXB hS (Nat.le_of_ble_eq_true rfl) (Nat.le_of_ble_eq_true rfl)
  · have hd := wt_rs_l ho_ hd
    refine lv_aload_n (pc := 7) hx hb dX1_share_7 rfl (lv_at hl 0 rfl) ?_
    obtain ⟨ad6, h7, hd⟩ := wt_bd_o hd
    refine hr_get (pc := 8) hx hb hts hown hK hW (hgA_o h7) hf_0_1 (fun _ h => h) q536 dX1_share_8 ?_
    refine lv_iconst (pc := 11) (v := 1) hx hb dX1_share_11 (by decide) ?_
    refine lv_iload_n (pc := 12) hx hb dX1_share_12 rfl (lv_at hl 1 rfl) ?_
    refine lv_ishl (pc := 13) hx hb dX1_share_13 ?_
    obtain ⟨h8, hd⟩ := wt_ck_o hd
    obtain ⟨w9, hc10, hd⟩ := wt_bd_o hd
    refine kX3_seatsOf (pc := 14) hx hb hml hown hts hC hW hS h8 hc10 hl.1 (Nat.le_of_ble_eq_true rfl) ⟨Nat.le_of_ble_eq_true rfl, Nat.le_of_ble_eq_true rfl⟩ ⟨Nat.le_of_ble_eq_true rfl, Nat.le_of_ble_eq_true rfl⟩ q1439 dX1_share_14 (fun H locs hW hS => ?_)
    refine vx_ret ?_
    exact hx_iret hx hb hr rfl hlocks ⟨(Option.some.inj hd), rfl⟩ hW hS dX1_share_17 (Nat.le_of_ble_eq_true rfl) (Nat.le_of_ble_eq_true rfl)
theorem kX1_share {p : Program} {l : Launch} {e : Env} {R : Room} {s : State} {m : MethodId} {args : Array Value} {below : List Frame} {meth : Method} {c : Code} {H : Heap} {locs : List Loc} {cells slots : Nat} {Q : State → Prop} {cc : ByteArray} {pc : Nat} {ls : Array Slot} {rest : List Value} {nL : Nat} {own : String} {index : Nat} {G : HG} {A : Nat → Prop} {τ : HP} {o_ : Nat} {a0 : Int32} {out_ : (Int32) ⊕ (Nat × Nat × HP)} (hfl : l.stackTraces = false) (hx : p.tables.exec = Jvm.exec) (hb : c.code = cc) (hml : c.maxLocals = nL) (hown : s.vm.findClass own = some m.cls) (hts : ∀ w ∈ lw_all, w.before args s = true) (hC : Hcx G A s) (hW : Hw G A τ H) (hS : va_S A s.heap H locs) (hrc : hcl τ o_ = some 0) (hd : eX1_share τ o_ a0 = some out_) (hsz : ls.size = nL) (hrm : (rest.map fun v => v.category).sum ≤ 8) (hR : 8 ≤ R.frames ∧ 151 ≤ R.locals) (hcs : (cells + 1) ≤ R.cells ∧ (slots + 6) ≤ R.slots) (hlk : Cond.methodLink own index yX1_share ∈ lw_all) (hdg : decode cc pc = .ok (.invokevirtual index, 3)) (kx : ∀ x_ : Nat × Nat × HP, Sum.inr x_ = out_ → ∀ (E : String) (ce : Cell) (q9 : Addr) (H1 : Heap) (locs1 : List Loc), hXb G A E q9 x_ H1 → va_S A s.heap H1 locs1 → H1[q9]? = some ce → ce.vm = .none → s.vm.findClass E = some ce.cls → vx_W p l e R s m args below meth c H1 locs1 (cells + 1) (slots + 6) Q (F0 m pc ls rest) q9) (kk : ∀ o_1 : Int32, Sum.inl o_1 = out_ → ∀ (H1 : Heap) (locs1 : List Loc), Hw G A τ H1 → va_S A s.heap H1 locs1 → W p l e R s m args below meth c H1 locs1 (cells + 1) (slots + 6) Q (F0 m (pc + 3) ls (.int o_1 :: rest))) : W p l e R s m args below meth c H locs cells slots Q (F0 m pc ls (.int a0 :: .ref o_ :: rest)) := by
  refine vx_calli (vx_runV (As := [.int a0]) (rest := rest) ⟨hx, hb, hml, hown, hts⟩ (wX1_share l hfl hd) (cwV 1 hts (lw_V hlk q1436 q1437 q66 q1438) rfl rfl rfl (by decide +kernel) hR) (hr_preV hC hW hS hrc rfl rfl) rfl rfl hsz rfl (lv_room hrm) hdg hcs) hS (fun _ _ h => h) (fun _ h => h) (fun _ _ h => h) (fun E ce q9 u t H1 locs1 ht hvm hp hB hz hk hS1 hce hvn hfc => ?_) (fun r u t H1 locs1 ht hvm hp hB hz hk hS1 => ?_)
  · rw [ht] at hB
    exact kx u hp E ce q9 H1 locs1 hB hS1 hce hvn hfc
  · have hW1 : Hw G A u t.heap := hB
    rw [ht] at hW1
    obtain ⟨hp, rfl⟩ := hp
    exact kk r hp H1 locs1 hW1 hS1
noncomputable def eX1_together (τ : HP) (o_ : Nat) (a0 : Int32) (a1 : Int32) : Option ((Int32) ⊕ (Nat × Nat × HP)) :=
  wt_bd (eX1_isSort a0) fun w1 => wt_bd (if w1 = 0 then (some (.inl ())) else (wt_bd (eX1_isSort a1) fun w8 => if w8 = 0 then (some (.inl ())) else (wt_bd (eX1_need τ (1 : Int32)) fun w11 => wt_rs w11 (fun o13 => wt_bd (hgA τ o_ [0] 1) fun ad14 => wt_ck (hcl τ ad14 = some 2) <| wt_bd (eX3_seatsOf τ ad14 (((1 : Int32) <<< (a0 &&& 31)) ||| ((1 : Int32) <<< (a1 &&& 31)))) fun w17 => wt_bd (hgA τ o_ [0] 1) fun ad19 => wt_bd (hgI τ ad19 [2] 3) fun f21 => wt_bd (hgA τ o_ [0] 1) fun ad23 => wt_ck (hcl τ ad23 = some 2) <| wt_bd (eX3_seatsOf τ ad23 ((1 : Int32) <<< (a0 &&& 31))) fun w26 => wt_bd (hgA τ o_ [0] 1) fun ad28 => wt_ck (hcl τ ad28 = some 2) <| wt_bd (eX3_seatsOf τ ad28 ((1 : Int32) <<< (a1 &&& 31))) fun w31 => some (.inr (.inl ((w17 * f21) - (w26 * w31))))) (fun x_ => some (.inr (.inr x_)))))) fun w3 => wt_rs w3 (fun w3 => wt_bd (eX1_need τ (0 : Int32)) fun w33 => wt_rs w33 (fun o35 => wt_bd (hgA τ o_ [0] 1) fun ad36 => wt_ck (hcl τ ad36 = some 2) <| wt_bd (eX3_seatsOf τ ad36 (((1 : Int32) <<< (a0 &&& 31)) ||| ((1 : Int32) <<< (a1 &&& 31)))) fun w39 => wt_bd (hgA τ o_ [0] 1) fun ad41 => wt_bd (hgI τ ad41 [2] 3) fun f43 => wt_bd (hgA τ o_ [0] 1) fun ad45 => wt_ck (hcl τ ad45 = some 2) <| wt_bd (eX3_seatsOf τ ad45 ((1 : Int32) <<< (a0 &&& 31))) fun w48 => wt_bd (hgA τ o_ [0] 1) fun ad50 => wt_ck (hcl τ ad50 = some 2) <| wt_bd (eX3_seatsOf τ ad50 ((1 : Int32) <<< (a1 &&& 31))) fun w53 => some (.inl ((w39 * f43) - (w48 * w53)))) (fun x_ => some (.inr x_))) (fun z_ => some z_)
set_option maxHeartbeats 4000000 in
theorem wX1_together (l : Launch) (hfl : l.stackTraces = false) {G : HG} {A : Nat → Prop} {τ : HP} {o_ : Nat} {a0 : Int32} {a1 : Int32} {out_ : (Int32) ⊕ (Nat × Nat × HP)} (hd : eX1_together τ o_ a0 a1 = some out_) : vx_Met l yX1_together (ws_ yX1_together cX1_together 3 (some .int)) ({ frames := 7, cells := 1, slots := 6, locals := 130 }) (hPc G A τ [.ref o_, .int a0, .int a1]) (hXi G A (fun r u => Sum.inl r = out_ ∧ u = τ)) (hXX G A out_) 1 6 A := by
  refine vx_ofW (cc := cX1_together) (maxL := 3) (ret := (some .int)) (by decide) rfl ?_
  intro p_ e_ s_ m_ args_ below_ meth_ c_ s₁_ B hml hno hv
  obtain ⟨rfl, hW, hC⟩ := hv
  have hx := B.exec
  have hb := B.bytes
  have hr := B.returns
  have hts := atoms_spec (ws := (ws_ yX1_together cX1_together 3 (some .int))) B.pre
  have hts : ∀ w ∈ lw_all, w.before _ s_ = true := fun w h => hts w (List.mem_cons_of_mem _ h)
  have hown : s_.vm.findClass RX1 = some m_.cls := findClass_of_methodNamed B.named
  have hlocks := B.notSynchronized
  have hK := hC.1
  have hT := hC.2.1
  have hL := hC.2.2.1
  have hZ := hC.2.2.2.2.1
  have hA := hC.2.2.2.2.2
  have hS : va_S A s_.heap s_.heap [] := va_S.rf
  have hl := lv_entry ([.ref o_, .int a0, .int a1]) (n := 3) (Nat.le_of_ble_eq_true rfl)
  rw [lg_entry_eq]
  generalize (lg_sl ([.ref o_, .int a0, .int a1]) ++ List.replicate (3 - (lg_sl ([.ref o_, .int a0, .int a1])).length) Slot.unset).toArray = ls at hl ⊢
  have hl : lv_has ls 3 [(0, .ref o_), (1, .int a0), (2, .int a1)] := hl
  unfold eX1_together at hd
  refine lv_iload_n (pc := 0) hx hb dX1_together_0 rfl (lv_at hl 1 rfl) ?_
  obtain ⟨w1, hc2, hd⟩ := wt_bd_o hd
  refine kX1_isSort (pc := 1) hx hb hml hown hts hC hW hS hc2 hl.1 (Nat.le_of_ble_eq_true rfl) ⟨Nat.le_of_ble_eq_true rfl, Nat.le_of_ble_eq_true rfl⟩ ⟨Nat.le_of_ble_eq_true rfl, Nat.le_of_ble_eq_true rfl⟩ q978 dX1_together_1 (fun H locs hW hS => ?_)
  obtain ⟨w3, hj4, hq5⟩ := wt_bd_o hd
  have hX6 : ∀ w3_ : Unit, (Sum.inl w3_ : (Unit) ⊕ _) = w3 → ∀ (H : Heap) (locs : List Loc) (ls : Array Slot), Hw G A τ H → va_S A s_.heap H locs → lv_has ls 3 [(0, .ref o_), (1, .int a0), (2, .int a1)] → W p_ l e_ (headSpec (ws_ yX1_together cX1_together 3 (some .int)) ({ frames := 7, cells := 1, slots := 6, locals := 130 })).room s_ m_ ([.ref o_, .int a0, .int a1] : List Value).toArray below_ meth_ c_ H locs 0 0 (vx_MQ below_ (hXi G A (fun r u => Sum.inl r = out_ ∧ u = τ)) (hXX G A out_) ([.ref o_, .int a0, .int a1] : List Value).toArray s_ 1 6 A) (F0 m_ 18 ls []) := by
    intro w3_ hw_
    have hd := wt_rs_l hw_ hq5
    clear hj4 hq5
    intro H locs ls hW hS hl
    refine lv_iconst (pc := 18) (v := 0) hx hb dX1_together_18 (by decide) ?_
    obtain ⟨w33, hc34, hd⟩ := wt_bd_o hd
    refine kX1_need (pc := 19) hfl hx hb hml hown hts hC hW hS hc34 hl.1 (Nat.le_of_ble_eq_true rfl) ⟨Nat.le_of_ble_eq_true rfl, Nat.le_of_ble_eq_true rfl⟩ ⟨(Nat.le_of_ble_eq_true rfl), (Nat.le_of_ble_eq_true rfl)⟩ q676 dX1_together_19 (fun x_ hx_ E_ ce_ q9_ H locs hXB hS hce hvn hfc => ?_) (fun o35 ho_ H locs hW hS => ?_)
    · have hd := wt_rs_r hx_ hd
      exact hx_out (fun z hz => (hno z hz).elim) hlocks hce hvn hfc (Option.some.inj hd) hXB hS (Nat.le_of_ble_eq_true rfl) (Nat.le_of_ble_eq_true rfl)
    · have hd := wt_rs_l ho_ hd
      refine lv_aload_n (pc := 22) hx hb dX1_together_22 rfl (lv_at hl 0 rfl) ?_
      obtain ⟨ad36, h37, hd⟩ := wt_bd_o hd
      refine hr_get (pc := 23) hx hb hts hown hK hW (hgA_o h37) hf_0_1 (fun _ h => h) q536 dX1_together_23 ?_
      refine lv_iconst (pc := 26) (v := 1) hx hb dX1_together_26 (by decide) ?_
      refine lv_iload_n (pc := 27) hx hb dX1_together_27 rfl (lv_at hl 1 rfl) ?_
      refine lv_ishl (pc := 28) hx hb dX1_together_28 ?_
      refine lv_iconst (pc := 29) (v := 1) hx hb dX1_together_29 (by decide) ?_
      refine lv_iload_n (pc := 30) hx hb dX1_together_30 rfl (lv_at hl 2 rfl) ?_
      refine lv_ishl (pc := 31) hx hb dX1_together_31 ?_
      refine lv_ior (pc := 32) hx hb dX1_together_32 ?_
      obtain ⟨h38, hd⟩ := wt_ck_o hd
      obtain ⟨w39, hc40, hd⟩ := wt_bd_o hd
      refine kX3_seatsOf (pc := 33) hx hb hml hown hts hC hW hS h38 hc40 hl.1 (Nat.le_of_ble_eq_true rfl) ⟨Nat.le_of_ble_eq_true rfl, Nat.le_of_ble_eq_true rfl⟩ ⟨Nat.le_of_ble_eq_true rfl, Nat.le_of_ble_eq_true rfl⟩ q1439 dX1_together_33 (fun H locs hW hS => ?_)
      refine lv_aload_n (pc := 36) hx hb dX1_together_36 rfl (lv_at hl 0 rfl) ?_
      obtain ⟨ad41, h42, hd⟩ := wt_bd_o hd
      refine hr_get (pc := 37) hx hb hts hown hK hW (hgA_o h42) hf_0_1 (fun _ h => h) q536 dX1_together_37 ?_
      obtain ⟨f43, h44, hd⟩ := wt_bd_o hd
      refine hr_getN (pc := 40) hx hb hts hown hK hT hW (hgI_o h44) hf_2_3 (fun _ h => h) q521 dX1_together_40 ?_
      refine lv_imul (pc := 43) hx hb dX1_together_43 ?_
      refine lv_aload_n (pc := 44) hx hb dX1_together_44 rfl (lv_at hl 0 rfl) ?_
      obtain ⟨ad45, h46, hd⟩ := wt_bd_o hd
      refine hr_get (pc := 45) hx hb hts hown hK hW (hgA_o h46) hf_0_1 (fun _ h => h) q536 dX1_together_45 ?_
      refine lv_iconst (pc := 48) (v := 1) hx hb dX1_together_48 (by decide) ?_
      refine lv_iload_n (pc := 49) hx hb dX1_together_49 rfl (lv_at hl 1 rfl) ?_
      refine lv_ishl (pc := 50) hx hb dX1_together_50 ?_
      obtain ⟨h47, hd⟩ := wt_ck_o hd
      obtain ⟨w48, hc49, hd⟩ := wt_bd_o hd
      refine kX3_seatsOf (pc := 51) hx hb hml hown hts hC hW hS h47 hc49 hl.1 (Nat.le_of_ble_eq_true rfl) ⟨Nat.le_of_ble_eq_true rfl, Nat.le_of_ble_eq_true rfl⟩ ⟨Nat.le_of_ble_eq_true rfl, Nat.le_of_ble_eq_true rfl⟩ q1439 dX1_together_51 (fun H locs hW hS => ?_)
      refine lv_aload_n (pc := 54) hx hb dX1_together_54 rfl (lv_at hl 0 rfl) ?_
      obtain ⟨ad50, h51, hd⟩ := wt_bd_o hd
      refine hr_get (pc := 55) hx hb hts hown hK hW (hgA_o h51) hf_0_1 (fun _ h => h) q536 dX1_together_55 ?_
      refine lv_iconst (pc := 58) (v := 1) hx hb dX1_together_58 (by decide) ?_
      refine lv_iload_n (pc := 59) hx hb dX1_together_59 rfl (lv_at hl 2 rfl) ?_
      refine lv_ishl (pc := 60) hx hb dX1_together_60 ?_
      obtain ⟨h52, hd⟩ := wt_ck_o hd
      obtain ⟨w53, hc54, hd⟩ := wt_bd_o hd
      refine kX3_seatsOf (pc := 61) hx hb hml hown hts hC hW hS h52 hc54 hl.1 (Nat.le_of_ble_eq_true rfl) ⟨Nat.le_of_ble_eq_true rfl, Nat.le_of_ble_eq_true rfl⟩ ⟨Nat.le_of_ble_eq_true rfl, Nat.le_of_ble_eq_true rfl⟩ q1439 dX1_together_61 (fun H locs hW hS => ?_)
      refine lv_imul (pc := 64) hx hb dX1_together_64 ?_
      refine lv_isub (pc := 65) hx hb dX1_together_65 ?_
      refine vx_ret ?_
      exact hx_iret hx hb hr rfl hlocks ⟨(Option.some.inj hd), rfl⟩ hW hS dX1_together_66 (Nat.le_of_ble_eq_true rfl) (Nat.le_of_ble_eq_true rfl)
  have hd := hj4
  refine lv_if_eq (pc := 4) (tgt := 18) hx hb dX1_together_4 (by decide) (fun c7 => ?_) (fun c7 => ?_)
  · have hd := wt_it hd c7
    exact hX6 () (Option.some.inj hd) _ _ _ hW hS hl
  · have hd := wt_if hd c7
    refine lv_iload_n (pc := 7) hx hb dX1_together_7 rfl (lv_at hl 2 rfl) ?_
    obtain ⟨w8, hc9, hd⟩ := wt_bd_o hd
    refine kX1_isSort (pc := 8) hx hb hml hown hts hC hW hS hc9 hl.1 (Nat.le_of_ble_eq_true rfl) ⟨Nat.le_of_ble_eq_true rfl, Nat.le_of_ble_eq_true rfl⟩ ⟨Nat.le_of_ble_eq_true rfl, Nat.le_of_ble_eq_true rfl⟩ q978 dX1_together_8 (fun H locs hW hS => ?_)
    refine lv_if_eq (pc := 11) (tgt := 18) hx hb dX1_together_11 (by decide) (fun c10 => ?_) (fun c10 => ?_)
    · have hd := wt_it hd c10
      exact hX6 () (Option.some.inj hd) _ _ _ hW hS hl
    · have hd := wt_if hd c10
      refine lv_iconst (pc := 14) (v := 1) hx hb dX1_together_14 (by decide) ?_
      refine lv_goto (pc := 15) (tgt := 19) hx hb dX1_together_15 (by decide) ?_
      obtain ⟨w11, hc12, hd⟩ := wt_bd_o hd
      refine kX1_need (pc := 19) hfl hx hb hml hown hts hC hW hS hc12 hl.1 (Nat.le_of_ble_eq_true rfl) ⟨Nat.le_of_ble_eq_true rfl, Nat.le_of_ble_eq_true rfl⟩ ⟨(Nat.le_of_ble_eq_true rfl), (Nat.le_of_ble_eq_true rfl)⟩ q676 dX1_together_19 (fun x_ hx_ E_ ce_ q9_ H locs hXB hS hce hvn hfc => ?_) (fun o13 ho_ H locs hW hS => ?_)
      · have hd := wt_rs_r hx_ hd
        have hd := wt_rs_r (Option.some.inj hd) hq5
        exact hx_out (fun z hz => (hno z hz).elim) hlocks hce hvn hfc (Option.some.inj hd) hXB hS (Nat.le_of_ble_eq_true rfl) (Nat.le_of_ble_eq_true rfl)
      · have hd := wt_rs_l ho_ hd
        refine lv_aload_n (pc := 22) hx hb dX1_together_22 rfl (lv_at hl 0 rfl) ?_
        obtain ⟨ad14, h15, hd⟩ := wt_bd_o hd
        refine hr_get (pc := 23) hx hb hts hown hK hW (hgA_o h15) hf_0_1 (fun _ h => h) q536 dX1_together_23 ?_
        refine lv_iconst (pc := 26) (v := 1) hx hb dX1_together_26 (by decide) ?_
        refine lv_iload_n (pc := 27) hx hb dX1_together_27 rfl (lv_at hl 1 rfl) ?_
        refine lv_ishl (pc := 28) hx hb dX1_together_28 ?_
        refine lv_iconst (pc := 29) (v := 1) hx hb dX1_together_29 (by decide) ?_
        refine lv_iload_n (pc := 30) hx hb dX1_together_30 rfl (lv_at hl 2 rfl) ?_
        refine lv_ishl (pc := 31) hx hb dX1_together_31 ?_
        refine lv_ior (pc := 32) hx hb dX1_together_32 ?_
        obtain ⟨h16, hd⟩ := wt_ck_o hd
        obtain ⟨w17, hc18, hd⟩ := wt_bd_o hd
        refine kX3_seatsOf (pc := 33) hx hb hml hown hts hC hW hS h16 hc18 hl.1 (Nat.le_of_ble_eq_true rfl) ⟨Nat.le_of_ble_eq_true rfl, Nat.le_of_ble_eq_true rfl⟩ ⟨Nat.le_of_ble_eq_true rfl, Nat.le_of_ble_eq_true rfl⟩ q1439 dX1_together_33 (fun H locs hW hS => ?_)
        refine lv_aload_n (pc := 36) hx hb dX1_together_36 rfl (lv_at hl 0 rfl) ?_
        obtain ⟨ad19, h20, hd⟩ := wt_bd_o hd
        refine hr_get (pc := 37) hx hb hts hown hK hW (hgA_o h20) hf_0_1 (fun _ h => h) q536 dX1_together_37 ?_
        obtain ⟨f21, h22, hd⟩ := wt_bd_o hd
        refine hr_getN (pc := 40) hx hb hts hown hK hT hW (hgI_o h22) hf_2_3 (fun _ h => h) q521 dX1_together_40 ?_
        refine lv_imul (pc := 43) hx hb dX1_together_43 ?_
        refine lv_aload_n (pc := 44) hx hb dX1_together_44 rfl (lv_at hl 0 rfl) ?_
        obtain ⟨ad23, h24, hd⟩ := wt_bd_o hd
        refine hr_get (pc := 45) hx hb hts hown hK hW (hgA_o h24) hf_0_1 (fun _ h => h) q536 dX1_together_45 ?_
        refine lv_iconst (pc := 48) (v := 1) hx hb dX1_together_48 (by decide) ?_
        refine lv_iload_n (pc := 49) hx hb dX1_together_49 rfl (lv_at hl 1 rfl) ?_
        refine lv_ishl (pc := 50) hx hb dX1_together_50 ?_
        obtain ⟨h25, hd⟩ := wt_ck_o hd
        obtain ⟨w26, hc27, hd⟩ := wt_bd_o hd
        refine kX3_seatsOf (pc := 51) hx hb hml hown hts hC hW hS h25 hc27 hl.1 (Nat.le_of_ble_eq_true rfl) ⟨Nat.le_of_ble_eq_true rfl, Nat.le_of_ble_eq_true rfl⟩ ⟨Nat.le_of_ble_eq_true rfl, Nat.le_of_ble_eq_true rfl⟩ q1439 dX1_together_51 (fun H locs hW hS => ?_)
        refine lv_aload_n (pc := 54) hx hb dX1_together_54 rfl (lv_at hl 0 rfl) ?_
        obtain ⟨ad28, h29, hd⟩ := wt_bd_o hd
        refine hr_get (pc := 55) hx hb hts hown hK hW (hgA_o h29) hf_0_1 (fun _ h => h) q536 dX1_together_55 ?_
        refine lv_iconst (pc := 58) (v := 1) hx hb dX1_together_58 (by decide) ?_
        refine lv_iload_n (pc := 59) hx hb dX1_together_59 rfl (lv_at hl 2 rfl) ?_
        refine lv_ishl (pc := 60) hx hb dX1_together_60 ?_
        obtain ⟨h30, hd⟩ := wt_ck_o hd
        obtain ⟨w31, hc32, hd⟩ := wt_bd_o hd
        refine kX3_seatsOf (pc := 61) hx hb hml hown hts hC hW hS h30 hc32 hl.1 (Nat.le_of_ble_eq_true rfl) ⟨Nat.le_of_ble_eq_true rfl, Nat.le_of_ble_eq_true rfl⟩ ⟨Nat.le_of_ble_eq_true rfl, Nat.le_of_ble_eq_true rfl⟩ q1439 dX1_together_61 (fun H locs hW hS => ?_)
        refine lv_imul (pc := 64) hx hb dX1_together_64 ?_
        refine lv_isub (pc := 65) hx hb dX1_together_65 ?_
        have hd := wt_rs_r (Option.some.inj hd) hq5
        refine vx_ret ?_
        exact hx_iret hx hb hr rfl hlocks ⟨(Option.some.inj hd), rfl⟩ hW hS dX1_together_66 (Nat.le_of_ble_eq_true rfl) (Nat.le_of_ble_eq_true rfl)
theorem kX1_together {p : Program} {l : Launch} {e : Env} {R : Room} {s : State} {m : MethodId} {args : Array Value} {below : List Frame} {meth : Method} {c : Code} {H : Heap} {locs : List Loc} {cells slots : Nat} {Q : State → Prop} {cc : ByteArray} {pc : Nat} {ls : Array Slot} {rest : List Value} {nL : Nat} {own : String} {index : Nat} {G : HG} {A : Nat → Prop} {τ : HP} {o_ : Nat} {a0 : Int32} {a1 : Int32} {out_ : (Int32) ⊕ (Nat × Nat × HP)} (hfl : l.stackTraces = false) (hx : p.tables.exec = Jvm.exec) (hb : c.code = cc) (hml : c.maxLocals = nL) (hown : s.vm.findClass own = some m.cls) (hts : ∀ w ∈ lw_all, w.before args s = true) (hC : Hcx G A s) (hW : Hw G A τ H) (hS : va_S A s.heap H locs) (hrc : hcl τ o_ = some 0) (hd : eX1_together τ o_ a0 a1 = some out_) (hsz : ls.size = nL) (hrm : (rest.map fun v => v.category).sum ≤ 8) (hR : 8 ≤ R.frames ∧ 152 ≤ R.locals) (hcs : (cells + 1) ≤ R.cells ∧ (slots + 6) ≤ R.slots) (hlk : Cond.methodLink own index yX1_together ∈ lw_all) (hdg : decode cc pc = .ok (.invokevirtual index, 3)) (kx : ∀ x_ : Nat × Nat × HP, Sum.inr x_ = out_ → ∀ (E : String) (ce : Cell) (q9 : Addr) (H1 : Heap) (locs1 : List Loc), hXb G A E q9 x_ H1 → va_S A s.heap H1 locs1 → H1[q9]? = some ce → ce.vm = .none → s.vm.findClass E = some ce.cls → vx_W p l e R s m args below meth c H1 locs1 (cells + 1) (slots + 6) Q (F0 m pc ls rest) q9) (kk : ∀ o_1 : Int32, Sum.inl o_1 = out_ → ∀ (H1 : Heap) (locs1 : List Loc), Hw G A τ H1 → va_S A s.heap H1 locs1 → W p l e R s m args below meth c H1 locs1 (cells + 1) (slots + 6) Q (F0 m (pc + 3) ls (.int o_1 :: rest))) : W p l e R s m args below meth c H locs cells slots Q (F0 m pc ls (.int a1 :: .int a0 :: .ref o_ :: rest)) := by
  refine vx_calli (vx_runV (As := [.int a0, .int a1]) (rest := rest) ⟨hx, hb, hml, hown, hts⟩ (wX1_together l hfl hd) (cwV 2 hts (lw_V hlk q1447 q1448 q66 q1449) rfl rfl rfl (by decide +kernel) hR) (hr_preV hC hW hS hrc rfl rfl) rfl rfl hsz rfl (lv_room hrm) hdg hcs) hS (fun _ _ h => h) (fun _ h => h) (fun _ _ h => h) (fun E ce q9 u t H1 locs1 ht hvm hp hB hz hk hS1 hce hvn hfc => ?_) (fun r u t H1 locs1 ht hvm hp hB hz hk hS1 => ?_)
  · rw [ht] at hB
    exact kx u hp E ce q9 H1 locs1 hB hS1 hce hvn hfc
  · have hW1 : Hw G A u t.heap := hB
    rw [ht] at hW1
    obtain ⟨hp, rfl⟩ := hp
    exact kk r hp H1 locs1 hW1 hS1
noncomputable def eX1_shop (τ : HP) (o_ : Nat) (a0 : Int32) (a1 : Int32) (a2 : Int32) : Option ((Int32 × HP) ⊕ (Nat × Nat × HP)) :=
  wt_bd (eX1_isSort a0) fun w1 => wt_bd (if w1 = 0 then (some (.inl ())) else (if a1 < 0 then (some (.inl ())) else (if a2 < a1 then (some (.inl ())) else (if a2 < (1 : Int32) then (some (.inl ())) else (if (1000000 : Int32) < a2 then (some (.inl ())) else (wt_bd (eX1_need τ (1 : Int32)) fun w12 => wt_rs w12 (fun o14 => wt_bd (hgA τ o_ [0] 1) fun ad15 => wt_bd (hgA τ ad15 [2] 1) fun ad17 => wt_ck (hcl τ ad17 = some 13) <| wt_bd (eJ2_size τ ad17) fun w20 => if w20 = (12 : Int32) then (some (.inr (.inl ((-1 : Int32), τ)))) else (wt_bd (hgA τ o_ [0] 1) fun ad23 => wt_bd (hgA τ ad23 [2] 1) fun ad25 => wt_lt (hnew τ (.inr (12, [.int 0, .int 0, .int 0]))) fun τ27 => wt_bd (eX15_init τ27 τ.2 a0 a1 a2) fun w28 => wt_ck (hcl w28 ad25 = some 13) <| wt_bd (eJ2_add w28 ad25 τ.2) fun w31 => wt_bd (hgA w31.2 o_ [0] 1) fun ad33 => wt_bd (hgA w31.2 ad33 [2] 1) fun ad35 => wt_ck (hcl w31.2 ad35 = some 13) <| wt_bd (eJ2_size w31.2 ad35) fun w38 => some (.inr (.inl (w38, w31.2))))) (fun x_ => some (.inr (.inr x_))))))))) fun w3 => wt_rs w3 (fun w3 => wt_bd (eX1_need τ (0 : Int32)) fun w40 => wt_rs w40 (fun o42 => wt_bd (hgA τ o_ [0] 1) fun ad43 => wt_bd (hgA τ ad43 [2] 1) fun ad45 => wt_ck (hcl τ ad45 = some 13) <| wt_bd (eJ2_size τ ad45) fun w48 => if w48 = (12 : Int32) then (some (.inl ((-1 : Int32), τ))) else (wt_bd (hgA τ o_ [0] 1) fun ad51 => wt_bd (hgA τ ad51 [2] 1) fun ad53 => wt_lt (hnew τ (.inr (12, [.int 0, .int 0, .int 0]))) fun τ55 => wt_bd (eX15_init τ55 τ.2 a0 a1 a2) fun w56 => wt_ck (hcl w56 ad53 = some 13) <| wt_bd (eJ2_add w56 ad53 τ.2) fun w59 => wt_bd (hgA w59.2 o_ [0] 1) fun ad61 => wt_bd (hgA w59.2 ad61 [2] 1) fun ad63 => wt_ck (hcl w59.2 ad63 = some 13) <| wt_bd (eJ2_size w59.2 ad63) fun w66 => some (.inl (w66, w59.2)))) (fun x_ => some (.inr x_))) (fun z_ => some z_)
set_option maxHeartbeats 4000000 in
theorem wX1_shop (l : Launch) (hfl : l.stackTraces = false) {G : HG} {A : Nat → Prop} {τ : HP} {o_ : Nat} {a0 : Int32} {a1 : Int32} {a2 : Int32} {out_ : (Int32 × HP) ⊕ (Nat × Nat × HP)} (hd : eX1_shop τ o_ a0 a1 a2 = some out_) : vx_Met l yX1_shop (ws_ yX1_shop cX1_shop 4 (some .int)) ({ frames := 7, cells := 3, slots := 41, locals := 163 }) (hPc G A τ [.ref o_, .int a0, .int a1, .int a2]) (hXi G A (fun r u => Sum.inl (r, u) = out_)) (hXX G A out_) 3 41 A := by
  refine vx_ofW (cc := cX1_shop) (maxL := 4) (ret := (some .int)) (by decide) rfl ?_
  intro p_ e_ s_ m_ args_ below_ meth_ c_ s₁_ B hml hno hv
  obtain ⟨rfl, hW, hC⟩ := hv
  have hx := B.exec
  have hb := B.bytes
  have hr := B.returns
  have hts := atoms_spec (ws := (ws_ yX1_shop cX1_shop 4 (some .int))) B.pre
  have hts : ∀ w ∈ lw_all, w.before _ s_ = true := fun w h => hts w (List.mem_cons_of_mem _ h)
  have hown : s_.vm.findClass RX1 = some m_.cls := findClass_of_methodNamed B.named
  have hlocks := B.notSynchronized
  have hK := hC.1
  have hT := hC.2.1
  have hL := hC.2.2.1
  have hZ := hC.2.2.2.2.1
  have hA := hC.2.2.2.2.2
  have hS : va_S A s_.heap s_.heap [] := va_S.rf
  have hl := lv_entry ([.ref o_, .int a0, .int a1, .int a2]) (n := 4) (Nat.le_of_ble_eq_true rfl)
  rw [lg_entry_eq]
  generalize (lg_sl ([.ref o_, .int a0, .int a1, .int a2]) ++ List.replicate (4 - (lg_sl ([.ref o_, .int a0, .int a1, .int a2])).length) Slot.unset).toArray = ls at hl ⊢
  have hl : lv_has ls 4 [(0, .ref o_), (1, .int a0), (2, .int a1), (3, .int a2)] := hl
  unfold eX1_shop at hd
  refine lv_iload_n (pc := 0) hx hb dX1_shop_0 rfl (lv_at hl 1 rfl) ?_
  obtain ⟨w1, hc2, hd⟩ := wt_bd_o hd
  refine kX1_isSort (pc := 1) hx hb hml hown hts hC hW hS hc2 hl.1 (Nat.le_of_ble_eq_true rfl) ⟨Nat.le_of_ble_eq_true rfl, Nat.le_of_ble_eq_true rfl⟩ ⟨Nat.le_of_ble_eq_true rfl, Nat.le_of_ble_eq_true rfl⟩ q978 dX1_shop_1 (fun H locs hW hS => ?_)
  obtain ⟨w3, hj4, hq5⟩ := wt_bd_o hd
  have hX6 : ∀ w3_ : Unit, (Sum.inl w3_ : (Unit) ⊕ _) = w3 → ∀ (H : Heap) (locs : List Loc) (ls : Array Slot), Hw G A τ H → va_S A s_.heap H locs → lv_has ls 4 [(0, .ref o_), (1, .int a0), (2, .int a1), (3, .int a2)] → W p_ l e_ (headSpec (ws_ yX1_shop cX1_shop 4 (some .int)) ({ frames := 7, cells := 3, slots := 41, locals := 163 })).room s_ m_ ([.ref o_, .int a0, .int a1, .int a2] : List Value).toArray below_ meth_ c_ H locs 0 0 (vx_MQ below_ (hXi G A (fun r u => Sum.inl (r, u) = out_)) (hXX G A out_) ([.ref o_, .int a0, .int a1, .int a2] : List Value).toArray s_ 3 41 A) (F0 m_ 31 ls []) := by
    intro w3_ hw_
    have hd := wt_rs_l hw_ hq5
    clear hj4 hq5
    intro H locs ls hW hS hl
    refine lv_iconst (pc := 31) (v := 0) hx hb dX1_shop_31 (by decide) ?_
    obtain ⟨w40, hc41, hd⟩ := wt_bd_o hd
    refine kX1_need (pc := 32) hfl hx hb hml hown hts hC hW hS hc41 hl.1 (Nat.le_of_ble_eq_true rfl) ⟨Nat.le_of_ble_eq_true rfl, Nat.le_of_ble_eq_true rfl⟩ ⟨(Nat.le_of_ble_eq_true rfl), (Nat.le_of_ble_eq_true rfl)⟩ q676 dX1_shop_32 (fun x_ hx_ E_ ce_ q9_ H locs hXB hS hce hvn hfc => ?_) (fun o42 ho_ H locs hW hS => ?_)
    · have hd := wt_rs_r hx_ hd
      exact hx_out (fun z hz => (hno z hz).elim) hlocks hce hvn hfc (Option.some.inj hd) hXB hS (Nat.le_of_ble_eq_true rfl) (Nat.le_of_ble_eq_true rfl)
    · have hd := wt_rs_l ho_ hd
      refine lv_aload_n (pc := 35) hx hb dX1_shop_35 rfl (lv_at hl 0 rfl) ?_
      obtain ⟨ad43, h44, hd⟩ := wt_bd_o hd
      refine hr_get (pc := 36) hx hb hts hown hK hW (hgA_o h44) hf_0_1 (fun _ h => h) q536 dX1_shop_36 ?_
      obtain ⟨ad45, h46, hd⟩ := wt_bd_o hd
      refine hr_getN (pc := 39) hx hb hts hown hK hT hW (hgA_o h46) hf_2_1 (fun _ h => h) q517 dX1_shop_39 ?_
      obtain ⟨h47, hd⟩ := wt_ck_o hd
      obtain ⟨w48, hc49, hd⟩ := wt_bd_o hd
      refine kJ2_size (pc := 42) hx hb hml hown hts hC hW hS h47 hc49 hl.1 (Nat.le_of_ble_eq_true rfl) ⟨Nat.le_of_ble_eq_true rfl, Nat.le_of_ble_eq_true rfl⟩ ⟨Nat.le_of_ble_eq_true rfl, Nat.le_of_ble_eq_true rfl⟩ q666 dX1_shop_42 (fun H locs hW hS => ?_)
      refine lv_bipush (pc := 45) (v := 12) hx hb dX1_shop_45 (by decide) ?_
      refine lv_icmp_ne (pc := 47) (tgt := 52) hx hb dX1_shop_47 (by decide) (fun c50 => ?_) (fun c50 => ?_)
      · have hd := wt_if hd c50
        refine lv_aload_n (pc := 52) hx hb dX1_shop_52 rfl (lv_at hl 0 rfl) ?_
        obtain ⟨ad51, h52, hd⟩ := wt_bd_o hd
        refine hr_get (pc := 53) hx hb hts hown hK hW (hgA_o h52) hf_0_1 (fun _ h => h) q536 dX1_shop_53 ?_
        obtain ⟨ad53, h54, hd⟩ := wt_bd_o hd
        refine hr_getN (pc := 56) hx hb hts hown hK hT hW (hgA_o h54) hf_2_1 (fun _ h => h) q517 dX1_shop_56 ?_
        obtain ⟨τ55, eτ55, hd⟩ := wt_lt_o hd
        refine hr_new (pc := 59) (ci := 12) (fs := [.int 0, .int 0, .int 0]) hx hb hts hown hK hW hS hA rfl tyX15 tyX15_ok (by decide +kernel) q1457 q1458 q103 eτ55 (Nat.le_of_ble_eq_true rfl) (Nat.le_of_ble_eq_true rfl) dX1_shop_59 (fun H hW hS => ?_)
        refine lv_dup (pc := 62) hx hb dX1_shop_62 rfl ?_
        refine lv_iload_n (pc := 63) hx hb dX1_shop_63 rfl (lv_at hl 1 rfl) ?_
        refine lv_iload_n (pc := 64) hx hb dX1_shop_64 rfl (lv_at hl 2 rfl) ?_
        refine lv_iload_n (pc := 65) hx hb dX1_shop_65 rfl (lv_at hl 3 rfl) ?_
        obtain ⟨w56, hc57, hd⟩ := wt_bd_o hd
        refine kX15_init (pc := 66) hx hb hml hown hts hC hW hS hc57 hl.1 (Nat.le_of_ble_eq_true rfl) ⟨Nat.le_of_ble_eq_true rfl, Nat.le_of_ble_eq_true rfl⟩ ⟨Nat.le_of_ble_eq_true rfl, Nat.le_of_ble_eq_true rfl⟩ q1459 dX1_shop_66 (fun H locs hW hS => ?_)
        obtain ⟨h58, hd⟩ := wt_ck_o hd
        obtain ⟨w59, hc60, hd⟩ := wt_bd_o hd
        refine kJ2_add (pc := 69) hx hb hml hown hts hC hW hS h58 hc60 hl.1 (Nat.le_of_ble_eq_true rfl) ⟨Nat.le_of_ble_eq_true rfl, Nat.le_of_ble_eq_true rfl⟩ ⟨(Nat.le_of_ble_eq_true rfl), (Nat.le_of_ble_eq_true rfl)⟩ q970 dX1_shop_69 (fun H locs hW hS => ?_)
        refine lv_pop (pc := 72) hx hb dX1_shop_72 rfl ?_
        refine lv_aload_n (pc := 73) hx hb dX1_shop_73 rfl (lv_at hl 0 rfl) ?_
        obtain ⟨ad61, h62, hd⟩ := wt_bd_o hd
        refine hr_get (pc := 74) hx hb hts hown hK hW (hgA_o h62) hf_0_1 (fun _ h => h) q536 dX1_shop_74 ?_
        obtain ⟨ad63, h64, hd⟩ := wt_bd_o hd
        refine hr_getN (pc := 77) hx hb hts hown hK hT hW (hgA_o h64) hf_2_1 (fun _ h => h) q517 dX1_shop_77 ?_
        obtain ⟨h65, hd⟩ := wt_ck_o hd
        obtain ⟨w66, hc67, hd⟩ := wt_bd_o hd
        refine kJ2_size (pc := 80) hx hb hml hown hts hC hW hS h65 hc67 hl.1 (Nat.le_of_ble_eq_true rfl) ⟨Nat.le_of_ble_eq_true rfl, Nat.le_of_ble_eq_true rfl⟩ ⟨Nat.le_of_ble_eq_true rfl, Nat.le_of_ble_eq_true rfl⟩ q666 dX1_shop_80 (fun H locs hW hS => ?_)
        refine vx_ret ?_
        exact hx_iret hx hb hr rfl hlocks (Option.some.inj hd) hW hS dX1_shop_83 (Nat.le_of_ble_eq_true rfl) (Nat.le_of_ble_eq_true rfl)
      · have hd := wt_it hd c50
        refine lv_iconst (pc := 50) (v := -1) hx hb dX1_shop_50 (by decide) ?_
        refine vx_ret ?_
        exact hx_iret hx hb hr rfl hlocks (Option.some.inj hd) hW hS dX1_shop_51 (Nat.le_of_ble_eq_true rfl) (Nat.le_of_ble_eq_true rfl)
  have hd := hj4
  refine lv_if_eq (pc := 4) (tgt := 31) hx hb dX1_shop_4 (by decide) (fun c7 => ?_) (fun c7 => ?_)
  · have hd := wt_it hd c7
    exact hX6 () (Option.some.inj hd) _ _ _ hW hS hl
  · have hd := wt_if hd c7
    refine lv_iload_n (pc := 7) hx hb dX1_shop_7 rfl (lv_at hl 2 rfl) ?_
    refine lv_if_lt (pc := 8) (tgt := 31) hx hb dX1_shop_8 (by decide) (fun c8 => ?_) (fun c8 => ?_)
    · have hd := wt_it hd c8
      exact hX6 () (Option.some.inj hd) _ _ _ hW hS hl
    · have hd := wt_if hd c8
      refine lv_iload_n (pc := 11) hx hb dX1_shop_11 rfl (lv_at hl 2 rfl) ?_
      refine lv_iload_n (pc := 12) hx hb dX1_shop_12 rfl (lv_at hl 3 rfl) ?_
      refine lv_icmp_gt (pc := 13) (tgt := 31) hx hb dX1_shop_13 (by decide) (fun c9 => ?_) (fun c9 => ?_)
      · have hd := wt_it hd c9
        exact hX6 () (Option.some.inj hd) _ _ _ hW hS hl
      · have hd := wt_if hd c9
        refine lv_iload_n (pc := 16) hx hb dX1_shop_16 rfl (lv_at hl 3 rfl) ?_
        refine lv_iconst (pc := 17) (v := 1) hx hb dX1_shop_17 (by decide) ?_
        refine lv_icmp_lt (pc := 18) (tgt := 31) hx hb dX1_shop_18 (by decide) (fun c10 => ?_) (fun c10 => ?_)
        · have hd := wt_it hd c10
          exact hX6 () (Option.some.inj hd) _ _ _ hW hS hl
        · have hd := wt_if hd c10
          refine lv_iload_n (pc := 21) hx hb dX1_shop_21 rfl (lv_at hl 3 rfl) ?_
          refine lv_ldc (pc := 22) hx hb hown (hts _ q1353) dX1_shop_22 ?_
          refine lv_icmp_gt (pc := 24) (tgt := 31) hx hb dX1_shop_24 (by decide) (fun c11 => ?_) (fun c11 => ?_)
          · have hd := wt_it hd c11
            exact hX6 () (Option.some.inj hd) _ _ _ hW hS hl
          · have hd := wt_if hd c11
            refine lv_iconst (pc := 27) (v := 1) hx hb dX1_shop_27 (by decide) ?_
            refine lv_goto (pc := 28) (tgt := 32) hx hb dX1_shop_28 (by decide) ?_
            obtain ⟨w12, hc13, hd⟩ := wt_bd_o hd
            refine kX1_need (pc := 32) hfl hx hb hml hown hts hC hW hS hc13 hl.1 (Nat.le_of_ble_eq_true rfl) ⟨Nat.le_of_ble_eq_true rfl, Nat.le_of_ble_eq_true rfl⟩ ⟨(Nat.le_of_ble_eq_true rfl), (Nat.le_of_ble_eq_true rfl)⟩ q676 dX1_shop_32 (fun x_ hx_ E_ ce_ q9_ H locs hXB hS hce hvn hfc => ?_) (fun o14 ho_ H locs hW hS => ?_)
            · have hd := wt_rs_r hx_ hd
              have hd := wt_rs_r (Option.some.inj hd) hq5
              exact hx_out (fun z hz => (hno z hz).elim) hlocks hce hvn hfc (Option.some.inj hd) hXB hS (Nat.le_of_ble_eq_true rfl) (Nat.le_of_ble_eq_true rfl)
            · have hd := wt_rs_l ho_ hd
              refine lv_aload_n (pc := 35) hx hb dX1_shop_35 rfl (lv_at hl 0 rfl) ?_
              obtain ⟨ad15, h16, hd⟩ := wt_bd_o hd
              refine hr_get (pc := 36) hx hb hts hown hK hW (hgA_o h16) hf_0_1 (fun _ h => h) q536 dX1_shop_36 ?_
              obtain ⟨ad17, h18, hd⟩ := wt_bd_o hd
              refine hr_getN (pc := 39) hx hb hts hown hK hT hW (hgA_o h18) hf_2_1 (fun _ h => h) q517 dX1_shop_39 ?_
              obtain ⟨h19, hd⟩ := wt_ck_o hd
              obtain ⟨w20, hc21, hd⟩ := wt_bd_o hd
              refine kJ2_size (pc := 42) hx hb hml hown hts hC hW hS h19 hc21 hl.1 (Nat.le_of_ble_eq_true rfl) ⟨Nat.le_of_ble_eq_true rfl, Nat.le_of_ble_eq_true rfl⟩ ⟨Nat.le_of_ble_eq_true rfl, Nat.le_of_ble_eq_true rfl⟩ q666 dX1_shop_42 (fun H locs hW hS => ?_)
              refine lv_bipush (pc := 45) (v := 12) hx hb dX1_shop_45 (by decide) ?_
              refine lv_icmp_ne (pc := 47) (tgt := 52) hx hb dX1_shop_47 (by decide) (fun c22 => ?_) (fun c22 => ?_)
              · have hd := wt_if hd c22
                refine lv_aload_n (pc := 52) hx hb dX1_shop_52 rfl (lv_at hl 0 rfl) ?_
                obtain ⟨ad23, h24, hd⟩ := wt_bd_o hd
                refine hr_get (pc := 53) hx hb hts hown hK hW (hgA_o h24) hf_0_1 (fun _ h => h) q536 dX1_shop_53 ?_
                obtain ⟨ad25, h26, hd⟩ := wt_bd_o hd
                refine hr_getN (pc := 56) hx hb hts hown hK hT hW (hgA_o h26) hf_2_1 (fun _ h => h) q517 dX1_shop_56 ?_
                obtain ⟨τ27, eτ27, hd⟩ := wt_lt_o hd
                refine hr_new (pc := 59) (ci := 12) (fs := [.int 0, .int 0, .int 0]) hx hb hts hown hK hW hS hA rfl tyX15 tyX15_ok (by decide +kernel) q1457 q1458 q103 eτ27 (Nat.le_of_ble_eq_true rfl) (Nat.le_of_ble_eq_true rfl) dX1_shop_59 (fun H hW hS => ?_)
                refine lv_dup (pc := 62) hx hb dX1_shop_62 rfl ?_
                refine lv_iload_n (pc := 63) hx hb dX1_shop_63 rfl (lv_at hl 1 rfl) ?_
                refine lv_iload_n (pc := 64) hx hb dX1_shop_64 rfl (lv_at hl 2 rfl) ?_
                refine lv_iload_n (pc := 65) hx hb dX1_shop_65 rfl (lv_at hl 3 rfl) ?_
                obtain ⟨w28, hc29, hd⟩ := wt_bd_o hd
                refine kX15_init (pc := 66) hx hb hml hown hts hC hW hS hc29 hl.1 (Nat.le_of_ble_eq_true rfl) ⟨Nat.le_of_ble_eq_true rfl, Nat.le_of_ble_eq_true rfl⟩ ⟨Nat.le_of_ble_eq_true rfl, Nat.le_of_ble_eq_true rfl⟩ q1459 dX1_shop_66 (fun H locs hW hS => ?_)
                obtain ⟨h30, hd⟩ := wt_ck_o hd
                obtain ⟨w31, hc32, hd⟩ := wt_bd_o hd
                refine kJ2_add (pc := 69) hx hb hml hown hts hC hW hS h30 hc32 hl.1 (Nat.le_of_ble_eq_true rfl) ⟨Nat.le_of_ble_eq_true rfl, Nat.le_of_ble_eq_true rfl⟩ ⟨(Nat.le_of_ble_eq_true rfl), (Nat.le_of_ble_eq_true rfl)⟩ q970 dX1_shop_69 (fun H locs hW hS => ?_)
                refine lv_pop (pc := 72) hx hb dX1_shop_72 rfl ?_
                refine lv_aload_n (pc := 73) hx hb dX1_shop_73 rfl (lv_at hl 0 rfl) ?_
                obtain ⟨ad33, h34, hd⟩ := wt_bd_o hd
                refine hr_get (pc := 74) hx hb hts hown hK hW (hgA_o h34) hf_0_1 (fun _ h => h) q536 dX1_shop_74 ?_
                obtain ⟨ad35, h36, hd⟩ := wt_bd_o hd
                refine hr_getN (pc := 77) hx hb hts hown hK hT hW (hgA_o h36) hf_2_1 (fun _ h => h) q517 dX1_shop_77 ?_
                obtain ⟨h37, hd⟩ := wt_ck_o hd
                obtain ⟨w38, hc39, hd⟩ := wt_bd_o hd
                refine kJ2_size (pc := 80) hx hb hml hown hts hC hW hS h37 hc39 hl.1 (Nat.le_of_ble_eq_true rfl) ⟨Nat.le_of_ble_eq_true rfl, Nat.le_of_ble_eq_true rfl⟩ ⟨Nat.le_of_ble_eq_true rfl, Nat.le_of_ble_eq_true rfl⟩ q666 dX1_shop_80 (fun H locs hW hS => ?_)
                have hd := wt_rs_r (Option.some.inj hd) hq5
                refine vx_ret ?_
                exact hx_iret hx hb hr rfl hlocks (Option.some.inj hd) hW hS dX1_shop_83 (Nat.le_of_ble_eq_true rfl) (Nat.le_of_ble_eq_true rfl)
              · have hd := wt_it hd c22
                refine lv_iconst (pc := 50) (v := -1) hx hb dX1_shop_50 (by decide) ?_
                have hd := wt_rs_r (Option.some.inj hd) hq5
                refine vx_ret ?_
                exact hx_iret hx hb hr rfl hlocks (Option.some.inj hd) hW hS dX1_shop_51 (Nat.le_of_ble_eq_true rfl) (Nat.le_of_ble_eq_true rfl)
theorem kX1_shop {p : Program} {l : Launch} {e : Env} {R : Room} {s : State} {m : MethodId} {args : Array Value} {below : List Frame} {meth : Method} {c : Code} {H : Heap} {locs : List Loc} {cells slots : Nat} {Q : State → Prop} {cc : ByteArray} {pc : Nat} {ls : Array Slot} {rest : List Value} {nL : Nat} {own : String} {index : Nat} {G : HG} {A : Nat → Prop} {τ : HP} {o_ : Nat} {a0 : Int32} {a1 : Int32} {a2 : Int32} {out_ : (Int32 × HP) ⊕ (Nat × Nat × HP)} (hfl : l.stackTraces = false) (hx : p.tables.exec = Jvm.exec) (hb : c.code = cc) (hml : c.maxLocals = nL) (hown : s.vm.findClass own = some m.cls) (hts : ∀ w ∈ lw_all, w.before args s = true) (hC : Hcx G A s) (hW : Hw G A τ H) (hS : va_S A s.heap H locs) (hrc : hcl τ o_ = some 0) (hd : eX1_shop τ o_ a0 a1 a2 = some out_) (hsz : ls.size = nL) (hrm : (rest.map fun v => v.category).sum ≤ 8) (hR : 8 ≤ R.frames ∧ 186 ≤ R.locals) (hcs : (cells + 3) ≤ R.cells ∧ (slots + 41) ≤ R.slots) (hlk : Cond.methodLink own index yX1_shop ∈ lw_all) (hdg : decode cc pc = .ok (.invokevirtual index, 3)) (kx : ∀ x_ : Nat × Nat × HP, Sum.inr x_ = out_ → ∀ (E : String) (ce : Cell) (q9 : Addr) (H1 : Heap) (locs1 : List Loc), hXb G A E q9 x_ H1 → va_S A s.heap H1 locs1 → H1[q9]? = some ce → ce.vm = .none → s.vm.findClass E = some ce.cls → vx_W p l e R s m args below meth c H1 locs1 (cells + 3) (slots + 41) Q (F0 m pc ls rest) q9) (kk : ∀ o_1 : Int32 × HP, Sum.inl o_1 = out_ → ∀ (H1 : Heap) (locs1 : List Loc), Hw G A o_1.2 H1 → va_S A s.heap H1 locs1 → W p l e R s m args below meth c H1 locs1 (cells + 3) (slots + 41) Q (F0 m (pc + 3) ls (.int o_1.1 :: rest))) : W p l e R s m args below meth c H locs cells slots Q (F0 m pc ls (.int a2 :: .int a1 :: .int a0 :: .ref o_ :: rest)) := by
  refine vx_calli (vx_runV (As := [.int a0, .int a1, .int a2]) (rest := rest) ⟨hx, hb, hml, hown, hts⟩ (wX1_shop l hfl hd) (cwV 3 hts (lw_V hlk q1454 q1455 q66 q1456) rfl rfl rfl (by decide +kernel) hR) (hr_preV hC hW hS hrc rfl rfl) rfl rfl hsz rfl (lv_room hrm) hdg hcs) hS (fun _ _ h => h) (fun _ h => h) (fun _ _ h => h) (fun E ce q9 u t H1 locs1 ht hvm hp hB hz hk hS1 hce hvn hfc => ?_) (fun r u t H1 locs1 ht hvm hp hB hz hk hS1 => ?_)
  · rw [ht] at hB
    exact kx u hp E ce q9 H1 locs1 hB hS1 hce hvn hfc
  · have hW1 : Hw G A u t.heap := hB
    rw [ht] at hW1
    exact kk (r, u) hp H1 locs1 hW1 hS1
noncomputable def bX1_rare_1 (τ : HP) (o_ : Nat) (a0 : Int32) (v13 : Int64 × Int64 × Int32 × Int32 × Int32) : Option ((Int64 × Int64 × Int32 × Int32 × Int32) ⊕ (Int64 × Int64 × Int32 × Int32)) :=
  wt_bd (hgA τ o_ [0] 1) fun ad23 => wt_bd (hgA τ ad23 [2] 1) fun ad25 => wt_ck (hcl τ ad25 = some 13) <| wt_bd (eJ2_size τ ad25) fun w28 => if w28 ≤ v13.2.2.2.2 then (some (.inr (v13.1, v13.2.1, v13.2.2.1, v13.2.2.2.1))) else (wt_bd (hgA τ o_ [0] 1) fun ad31 => wt_bd (hgA τ ad31 [2] 1) fun ad33 => wt_ck (hcl τ ad33 = some 13) <| wt_bd (eJ2_get τ ad33 v13.2.2.2.2) fun w36 => wt_ck (hcl τ w36 = some 12) <| wt_bd (hgI τ w36 [12] 0) fun f39 => if f39 = a0 then (wt_bd (hgI τ w36 [12] 1) fun f42 => wt_lt ((v13.1 + (Int32.toInt64 f42))) fun n44 => wt_bd (hgI τ w36 [12] 2) fun f45 => wt_lt ((v13.2.1 + (Int32.toInt64 f45))) fun n47 => wt_bd (hgI τ w36 [12] 1) fun f48 => wt_bd (hgI τ w36 [12] 2) fun f50 => wt_ck (¬ (Int32.toInt64 f50) = 0) <| wt_lt ((Int64.toInt32 (((1000 : Int64) * (Int32.toInt64 f48)) / (Int32.toInt64 f50)))) fun n53 => wt_bd (if v13.2.2.1 = (-1 : Int32) then (some (n53)) else (some (wt_min v13.2.2.1 n53))) fun w54 => wt_lt ((wt_max v13.2.2.2.1 n53)) fun n59 => wt_lt (v13.2.2.2.2 + (1 : Int32)) fun n60 => some (.inl (n44, n47, w54, n59, n60))) else (wt_lt (v13.2.2.2.2 + (1 : Int32)) fun n61 => some (.inl (v13.1, v13.2.1, v13.2.2.1, v13.2.2.2.1, n61))))
noncomputable def bX1_rare_2 (τ : HP) (o_ : Nat) (a0 : Int32) (v69 : Int64 × Int64 × Int32 × Int32 × Int32) : Option ((Int64 × Int64 × Int32 × Int32 × Int32) ⊕ (Int64 × Int64 × Int32 × Int32)) :=
  wt_bd (hgA τ o_ [0] 1) fun ad79 => wt_bd (hgA τ ad79 [2] 1) fun ad81 => wt_ck (hcl τ ad81 = some 13) <| wt_bd (eJ2_size τ ad81) fun w84 => if w84 ≤ v69.2.2.2.2 then (some (.inr (v69.1, v69.2.1, v69.2.2.1, v69.2.2.2.1))) else (wt_bd (hgA τ o_ [0] 1) fun ad87 => wt_bd (hgA τ ad87 [2] 1) fun ad89 => wt_ck (hcl τ ad89 = some 13) <| wt_bd (eJ2_get τ ad89 v69.2.2.2.2) fun w92 => wt_ck (hcl τ w92 = some 12) <| wt_bd (hgI τ w92 [12] 0) fun f95 => if f95 = a0 then (wt_bd (hgI τ w92 [12] 1) fun f98 => wt_lt ((v69.1 + (Int32.toInt64 f98))) fun n100 => wt_bd (hgI τ w92 [12] 2) fun f101 => wt_lt ((v69.2.1 + (Int32.toInt64 f101))) fun n103 => wt_bd (hgI τ w92 [12] 1) fun f104 => wt_bd (hgI τ w92 [12] 2) fun f106 => wt_ck (¬ (Int32.toInt64 f106) = 0) <| wt_lt ((Int64.toInt32 (((1000 : Int64) * (Int32.toInt64 f104)) / (Int32.toInt64 f106)))) fun n109 => wt_bd (if v69.2.2.1 = (-1 : Int32) then (some (n109)) else (some (wt_min v69.2.2.1 n109))) fun w110 => wt_lt ((wt_max v69.2.2.2.1 n109)) fun n115 => wt_lt (v69.2.2.2.2 + (1 : Int32)) fun n116 => some (.inl (n100, n103, w110, n115, n116))) else (wt_lt (v69.2.2.2.2 + (1 : Int32)) fun n117 => some (.inl (v69.1, v69.2.1, v69.2.2.1, v69.2.2.2.1, n117))))
noncomputable def eX1_rare (τ : HP) (o_ : Nat) (a0 : Int32) (a1 : Int32) : Option ((Int32) ⊕ (Nat × Nat × HP)) :=
  wt_bd (eX1_isSort a0) fun w1 => wt_bd (if w1 = 0 then (some (.inl ())) else (if a1 < 0 then (some (.inl ())) else (if (2 : Int32) < a1 then (some (.inl ())) else (wt_bd (eX1_need τ (1 : Int32)) fun w10 => wt_rs w10 (fun o12 => wt_bd (wt_whC (bX1_rare_1 τ o_ a0) ((0 : Int64), (0 : Int64), (-1 : Int32), (-1 : Int32), (0 : Int32))) fun w14 => if (lg_cmp w14.2.1 (0 : Int64)) = 0 then (some (.inr (.inl (-1 : Int32)))) else (if a1 = 0 then (wt_ck (¬ w14.2.1 = 0) <| some (.inr (.inl (Int64.toInt32 (((1000 : Int64) * w14.1) / w14.2.1))))) else (if a1 = (1 : Int32) then (some (.inr (.inl w14.2.2.1))) else (some (.inr (.inl w14.2.2.2)))))) (fun x_ => some (.inr (.inr x_))))))) fun w3 => wt_rs w3 (fun w3 => wt_bd (eX1_need τ (0 : Int32)) fun w66 => wt_rs w66 (fun o68 => wt_bd (wt_whC (bX1_rare_2 τ o_ a0) ((0 : Int64), (0 : Int64), (-1 : Int32), (-1 : Int32), (0 : Int32))) fun w70 => if (lg_cmp w70.2.1 (0 : Int64)) = 0 then (some (.inl (-1 : Int32))) else (if a1 = 0 then (wt_ck (¬ w70.2.1 = 0) <| some (.inl (Int64.toInt32 (((1000 : Int64) * w70.1) / w70.2.1)))) else (if a1 = (1 : Int32) then (some (.inl w70.2.2.1)) else (some (.inl w70.2.2.2))))) (fun x_ => some (.inr x_))) (fun z_ => some z_)
set_option maxHeartbeats 4000000 in
theorem wX1_rare (l : Launch) (hfl : l.stackTraces = false) {G : HG} {A : Nat → Prop} {τ : HP} {o_ : Nat} {a0 : Int32} {a1 : Int32} {out_ : (Int32) ⊕ (Nat × Nat × HP)} (hd : eX1_rare τ o_ a0 a1 = some out_) : vx_Met l yX1_rare (ws_ yX1_rare cX1_rare 12 (some .int)) ({ frames := 7, cells := 1, slots := 6, locals := 130 }) (hPc G A τ [.ref o_, .int a0, .int a1]) (hXi G A (fun r u => Sum.inl r = out_ ∧ u = τ)) (hXX G A out_) 1 6 A := by
  refine vx_ofW (cc := cX1_rare) (maxL := 12) (ret := (some .int)) (by decide) rfl ?_
  intro p_ e_ s_ m_ args_ below_ meth_ c_ s₁_ B hml hno hv
  obtain ⟨rfl, hW, hC⟩ := hv
  have hx := B.exec
  have hb := B.bytes
  have hr := B.returns
  have hts := atoms_spec (ws := (ws_ yX1_rare cX1_rare 12 (some .int))) B.pre
  have hts : ∀ w ∈ lw_all, w.before _ s_ = true := fun w h => hts w (List.mem_cons_of_mem _ h)
  have hown : s_.vm.findClass RX1 = some m_.cls := findClass_of_methodNamed B.named
  have hlocks := B.notSynchronized
  have hK := hC.1
  have hT := hC.2.1
  have hL := hC.2.2.1
  have hZ := hC.2.2.2.2.1
  have hA := hC.2.2.2.2.2
  have hS : va_S A s_.heap s_.heap [] := va_S.rf
  have hl := lv_entry ([.ref o_, .int a0, .int a1]) (n := 12) (Nat.le_of_ble_eq_true rfl)
  rw [lg_entry_eq]
  generalize (lg_sl ([.ref o_, .int a0, .int a1]) ++ List.replicate (12 - (lg_sl ([.ref o_, .int a0, .int a1])).length) Slot.unset).toArray = ls at hl ⊢
  have hl : lv_has ls 12 [(0, .ref o_), (1, .int a0), (2, .int a1)] := hl
  unfold eX1_rare at hd
  refine lv_iload_n (pc := 0) hx hb dX1_rare_0 rfl (lv_at hl 1 rfl) ?_
  obtain ⟨w1, hc2, hd⟩ := wt_bd_o hd
  refine kX1_isSort (pc := 1) hx hb hml hown hts hC hW hS hc2 hl.1 (Nat.le_of_ble_eq_true rfl) ⟨Nat.le_of_ble_eq_true rfl, Nat.le_of_ble_eq_true rfl⟩ ⟨Nat.le_of_ble_eq_true rfl, Nat.le_of_ble_eq_true rfl⟩ q978 dX1_rare_1 (fun H locs hW hS => ?_)
  obtain ⟨w3, hj4, hq5⟩ := wt_bd_o hd
  have hX6 : ∀ w3_ : Unit, (Sum.inl w3_ : (Unit) ⊕ _) = w3 → ∀ (H : Heap) (locs : List Loc) (ls : Array Slot), Hw G A τ H → va_S A s_.heap H locs → lv_has ls 12 [(0, .ref o_), (1, .int a0), (2, .int a1)] → W p_ l e_ (headSpec (ws_ yX1_rare cX1_rare 12 (some .int)) ({ frames := 7, cells := 1, slots := 6, locals := 130 })).room s_ m_ ([.ref o_, .int a0, .int a1] : List Value).toArray below_ meth_ c_ H locs 0 0 (vx_MQ below_ (hXi G A (fun r u => Sum.inl r = out_ ∧ u = τ)) (hXX G A out_) ([.ref o_, .int a0, .int a1] : List Value).toArray s_ 1 6 A) (F0 m_ 20 ls []) := by
    intro w3_ hw_
    have hd := wt_rs_l hw_ hq5
    clear hj4 hq5
    intro H locs ls hW hS hl
    refine lv_iconst (pc := 20) (v := 0) hx hb dX1_rare_20 (by decide) ?_
    obtain ⟨w66, hc67, hd⟩ := wt_bd_o hd
    refine kX1_need (pc := 21) hfl hx hb hml hown hts hC hW hS hc67 hl.1 (Nat.le_of_ble_eq_true rfl) ⟨Nat.le_of_ble_eq_true rfl, Nat.le_of_ble_eq_true rfl⟩ ⟨(Nat.le_of_ble_eq_true rfl), (Nat.le_of_ble_eq_true rfl)⟩ q676 dX1_rare_21 (fun x_ hx_ E_ ce_ q9_ H locs hXB hS hce hvn hfc => ?_) (fun o68 ho_ H locs hW hS => ?_)
    · have hd := wt_rs_r hx_ hd
      exact hx_out (fun z hz => (hno z hz).elim) hlocks hce hvn hfc (Option.some.inj hd) hXB hS (Nat.le_of_ble_eq_true rfl) (Nat.le_of_ble_eq_true rfl)
    · have hd := wt_rs_l ho_ hd
      refine lv_lconst (pc := 24) (v := 0) hx hb dX1_rare_24 (by decide) ?_
      refine lv_lstore_n (pc := 25) (lv' := [(3, .long (0 : Int64)), (0, .ref o_), (1, .int a0), (2, .int a1)]) hx hb dX1_rare_25 rfl hl (by decide) rfl (fun ls hl => ?_)
      refine lv_lconst (pc := 26) (v := 0) hx hb dX1_rare_26 (by decide) ?_
      refine lv_lstore (pc := 27) (lv' := [(5, .long (0 : Int64)), (3, .long (0 : Int64)), (0, .ref o_), (1, .int a0), (2, .int a1)]) hx hb dX1_rare_27 hl (by decide) rfl (fun ls hl => ?_)
      refine lv_iconst (pc := 29) (v := -1) hx hb dX1_rare_29 (by decide) ?_
      refine lv_istore (pc := 30) (lv' := [(7, .int (-1 : Int32)), (5, .long (0 : Int64)), (3, .long (0 : Int64)), (0, .ref o_), (1, .int a0), (2, .int a1)]) hx hb dX1_rare_30 hl (by decide) rfl (fun ls hl => ?_)
      refine lv_iconst (pc := 32) (v := -1) hx hb dX1_rare_32 (by decide) ?_
      refine lv_istore (pc := 33) (lv' := [(8, .int (-1 : Int32)), (7, .int (-1 : Int32)), (5, .long (0 : Int64)), (3, .long (0 : Int64)), (0, .ref o_), (1, .int a0), (2, .int a1)]) hx hb dX1_rare_33 hl (by decide) rfl (fun ls hl => ?_)
      refine lv_iconst (pc := 35) (v := 0) hx hb dX1_rare_35 (by decide) ?_
      refine lv_istore (pc := 36) (lv' := [(9, .int (0 : Int32)), (8, .int (-1 : Int32)), (7, .int (-1 : Int32)), (5, .long (0 : Int64)), (3, .long (0 : Int64)), (0, .ref o_), (1, .int a0), (2, .int a1)]) hx hb dX1_rare_36 hl (by decide) rfl (fun ls hl => ?_)
      obtain ⟨w70, hL71, hq72⟩ := wt_bd_o hd
      have hX73 : ∀ w70_ : Int64 × Int64 × Int32 × Int32, w70_ = w70 → ∀ (H : Heap) (locs : List Loc) (ls : Array Slot), Hw G A τ H → va_S A s_.heap H locs → lv_has ls 12 [(2, .int a1), (3, .long w70_.1), (5, .long w70_.2.1), (7, .int w70_.2.2.1), (8, .int w70_.2.2.2)] → W p_ l e_ (headSpec (ws_ yX1_rare cX1_rare 12 (some .int)) ({ frames := 7, cells := 1, slots := 6, locals := 130 })).room s_ m_ ([.ref o_, .int a0, .int a1] : List Value).toArray below_ meth_ c_ H locs 1 6 (vx_MQ below_ (hXi G A (fun r u => Sum.inl r = out_ ∧ u = τ)) (hXX G A out_) ([.ref o_, .int a0, .int a1] : List Value).toArray s_ 1 6 A) (F0 m_ 157 ls []) := by
        intro w70_ hw_
        have hd := hq72
        subst hw_
        clear hL71 hq72
        intro H locs ls hW hS hl
        refine lv_lload (pc := 157) hx hb dX1_rare_157 (lv_at hl 2 rfl) ?_
        refine lv_lconst (pc := 159) (v := 0) hx hb dX1_rare_159 (by decide) ?_
        refine W.lcmp (pc := 160) hx hb dX1_rare_160 ?_
        refine lv_if_ne (pc := 161) (tgt := 166) hx hb dX1_rare_161 (by decide) (fun c118 => ?_) (fun c118 => ?_)
        · have hd := wt_if hd c118
          refine lv_iload_n (pc := 166) hx hb dX1_rare_166 rfl (lv_at hl 0 rfl) ?_
          refine lv_if_ne (pc := 167) (tgt := 182) hx hb dX1_rare_167 (by decide) (fun c119 => ?_) (fun c119 => ?_)
          · have hd := wt_if hd c119
            refine lv_iload_n (pc := 182) hx hb dX1_rare_182 rfl (lv_at hl 0 rfl) ?_
            refine lv_iconst (pc := 183) (v := 1) hx hb dX1_rare_183 (by decide) ?_
            refine lv_icmp_ne (pc := 184) (tgt := 192) hx hb dX1_rare_184 (by decide) (fun c120 => ?_) (fun c120 => ?_)
            · have hd := wt_if hd c120
              refine lv_iload (pc := 192) hx hb dX1_rare_192 (lv_at hl 4 rfl) ?_
              refine vx_ret ?_
              exact hx_iret hx hb hr rfl hlocks ⟨(Option.some.inj hd), rfl⟩ hW hS dX1_rare_194 (Nat.le_of_ble_eq_true rfl) (Nat.le_of_ble_eq_true rfl)
            · have hd := wt_it hd c120
              refine lv_iload (pc := 187) hx hb dX1_rare_187 (lv_at hl 3 rfl) ?_
              refine lv_goto (pc := 189) (tgt := 194) hx hb dX1_rare_189 (by decide) ?_
              refine vx_ret ?_
              exact hx_iret hx hb hr rfl hlocks ⟨(Option.some.inj hd), rfl⟩ hW hS dX1_rare_194 (Nat.le_of_ble_eq_true rfl) (Nat.le_of_ble_eq_true rfl)
          · have hd := wt_it hd c119
            refine lv_ldc2 (pc := 170) hx hb hown (hts _ q1483) dX1_rare_170 ?_
            refine lv_lload_n (pc := 173) hx hb dX1_rare_173 rfl (lv_at hl 1 rfl) ?_
            refine lv_lmul (pc := 174) hx hb dX1_rare_174 ?_
            refine lv_lload (pc := 175) hx hb dX1_rare_175 (lv_at hl 2 rfl) ?_
            obtain ⟨h121, hd⟩ := wt_ck_o hd
            refine lv_ldiv (pc := 177) hx hb dX1_rare_177 h121 ?_
            refine lv_l2i (pc := 178) hx hb dX1_rare_178 rfl ?_
            refine lv_goto (pc := 179) (tgt := 194) hx hb dX1_rare_179 (by decide) ?_
            refine vx_ret ?_
            exact hx_iret hx hb hr rfl hlocks ⟨(Option.some.inj hd), rfl⟩ hW hS dX1_rare_194 (Nat.le_of_ble_eq_true rfl) (Nat.le_of_ble_eq_true rfl)
        · have hd := wt_it hd c118
          refine lv_iconst (pc := 164) (v := -1) hx hb dX1_rare_164 (by decide) ?_
          refine vx_ret ?_
          exact hx_iret hx hb hr rfl hlocks ⟨(Option.some.inj hd), rfl⟩ hW hS dX1_rare_165 (Nat.le_of_ble_eq_true rfl) (Nat.le_of_ble_eq_true rfl)
      have hI78 : ∀ (k77 : Nat) (v69 : Int64 × Int64 × Int32 × Int32 × Int32), wt_wh (bX1_rare_2 τ o_ a0) k77 v69 = some w70 → ∀ (H : Heap) (locs : List Loc) (ls : Array Slot), Hw G A τ H → va_S A s_.heap H locs → lv_has ls 12 [(0, .ref o_), (1, .int a0), (2, .int a1), (3, .long v69.1), (5, .long v69.2.1), (7, .int v69.2.2.1), (8, .int v69.2.2.2.1), (9, .int v69.2.2.2.2)] → W p_ l e_ (headSpec (ws_ yX1_rare cX1_rare 12 (some .int)) ({ frames := 7, cells := 1, slots := 6, locals := 130 })).room s_ m_ ([.ref o_, .int a0, .int a1] : List Value).toArray below_ meth_ c_ H locs 1 6 (vx_MQ below_ (hXi G A (fun r u => Sum.inl r = out_ ∧ u = τ)) (hXX G A out_) ([.ref o_, .int a0, .int a1] : List Value).toArray s_ 1 6 A) (F0 m_ 38 ls []) := by
        intro k77
        induction k77 with
        | zero => intro v69 hd; exact absurd hd wt_wh_z
        | succ k77 ih75 =>
          intro v69 hd
          intro H locs ls hW hS hl
          obtain ⟨r76, hd, hk74⟩ := wt_wh_o hd
          unfold bX1_rare_2 at hd
          refine lv_iload (pc := 38) hx hb dX1_rare_38 (lv_at hl 7 rfl) ?_
          refine lv_aload_n (pc := 40) hx hb dX1_rare_40 rfl (lv_at hl 0 rfl) ?_
          obtain ⟨ad79, h80, hd⟩ := wt_bd_o hd
          refine hr_get (pc := 41) hx hb hts hown hK hW (hgA_o h80) hf_0_1 (fun _ h => h) q536 dX1_rare_41 ?_
          obtain ⟨ad81, h82, hd⟩ := wt_bd_o hd
          refine hr_getN (pc := 44) hx hb hts hown hK hT hW (hgA_o h82) hf_2_1 (fun _ h => h) q517 dX1_rare_44 ?_
          obtain ⟨h83, hd⟩ := wt_ck_o hd
          obtain ⟨w84, hc85, hd⟩ := wt_bd_o hd
          refine kJ2_size (pc := 47) hx hb hml hown hts hC hW hS h83 hc85 hl.1 (Nat.le_of_ble_eq_true rfl) ⟨Nat.le_of_ble_eq_true rfl, Nat.le_of_ble_eq_true rfl⟩ ⟨Nat.le_of_ble_eq_true rfl, Nat.le_of_ble_eq_true rfl⟩ q666 dX1_rare_47 (fun H locs hW hS => ?_)
          refine lv_icmp_ge (pc := 50) (tgt := 157) hx hb dX1_rare_50 (by decide) (fun c86 => ?_) (fun c86 => ?_)
          · have hd := wt_it hd c86
            exact hX73 (v69.1, v69.2.1, v69.2.2.1, v69.2.2.2.1) (wt_exit hd hk74) _ _ _ hW hS (lv_sub hl [2, 3, 4, 5, 6] rfl)
          · have hd := wt_if hd c86
            refine lv_aload_n (pc := 53) hx hb dX1_rare_53 rfl (lv_at hl 0 rfl) ?_
            obtain ⟨ad87, h88, hd⟩ := wt_bd_o hd
            refine hr_get (pc := 54) hx hb hts hown hK hW (hgA_o h88) hf_0_1 (fun _ h => h) q536 dX1_rare_54 ?_
            obtain ⟨ad89, h90, hd⟩ := wt_bd_o hd
            refine hr_getN (pc := 57) hx hb hts hown hK hT hW (hgA_o h90) hf_2_1 (fun _ h => h) q517 dX1_rare_57 ?_
            refine lv_iload (pc := 60) hx hb dX1_rare_60 (lv_at hl 7 rfl) ?_
            obtain ⟨h91, hd⟩ := wt_ck_o hd
            obtain ⟨w92, hc93, hd⟩ := wt_bd_o hd
            refine kJ2_get (pc := 62) hx hb hml hown hts hC hW hS h91 hc93 hl.1 (Nat.le_of_ble_eq_true rfl) ⟨Nat.le_of_ble_eq_true rfl, Nat.le_of_ble_eq_true rfl⟩ ⟨Nat.le_of_ble_eq_true rfl, Nat.le_of_ble_eq_true rfl⟩ q1024 dX1_rare_62 (fun H locs hW hS => ?_)
            obtain ⟨h94, hd⟩ := wt_ck_o hd
            refine hr_cast (pc := 65) (ci := 12) hx hb hts hown hK hW h94 rfl rfl q1457 dX1_rare_65 ?_
            refine lv_astore (pc := 68) (lv' := [(10, .ref w92), (0, .ref o_), (1, .int a0), (2, .int a1), (3, .long v69.1), (5, .long v69.2.1), (7, .int v69.2.2.1), (8, .int v69.2.2.2.1), (9, .int v69.2.2.2.2)]) hx hb dX1_rare_68 hl (by decide) rfl (fun ls hl => ?_)
            refine lv_aload (pc := 70) hx hb dX1_rare_70 (lv_at hl 0 rfl) ?_
            obtain ⟨f95, h96, hd⟩ := wt_bd_o hd
            refine hr_getN (pc := 72) hx hb hts hown hK hT hW (hgI_o h96) hf_12_0 (fun _ h => h) q1464 dX1_rare_72 ?_
            refine lv_iload_n (pc := 75) hx hb dX1_rare_75 rfl (lv_at hl 2 rfl) ?_
            refine lv_icmp_eq (pc := 76) (tgt := 82) hx hb dX1_rare_76 (by decide) (fun c97 => ?_) (fun c97 => ?_)
            · have hd := wt_it hd c97
              refine lv_lload_n (pc := 82) hx hb dX1_rare_82 rfl (lv_at hl 4 rfl) ?_
              refine lv_aload (pc := 83) hx hb dX1_rare_83 (lv_at hl 0 rfl) ?_
              obtain ⟨f98, h99, hd⟩ := wt_bd_o hd
              refine hr_getN (pc := 85) hx hb hts hown hK hT hW (hgI_o h99) hf_12_1 (fun _ h => h) q1466 dX1_rare_85 ?_
              refine lv_i2l (pc := 88) hx hb dX1_rare_88 rfl ?_
              refine lv_ladd (pc := 89) hx hb dX1_rare_89 ?_
              obtain ⟨n100, en100, hd⟩ := wt_lt_o hd
              refine lv_topel en100 ?_
              refine lv_lstore_n (pc := 90) (lv' := [(3, .long n100), (10, .ref w92), (0, .ref o_), (1, .int a0), (2, .int a1), (5, .long v69.2.1), (7, .int v69.2.2.1), (8, .int v69.2.2.2.1), (9, .int v69.2.2.2.2)]) hx hb dX1_rare_90 rfl hl (by decide) rfl (fun ls hl => ?_)
              refine lv_lload (pc := 91) hx hb dX1_rare_91 (lv_at hl 5 rfl) ?_
              refine lv_aload (pc := 93) hx hb dX1_rare_93 (lv_at hl 1 rfl) ?_
              obtain ⟨f101, h102, hd⟩ := wt_bd_o hd
              refine hr_getN (pc := 95) hx hb hts hown hK hT hW (hgI_o h102) hf_12_2 (fun _ h => h) q1468 dX1_rare_95 ?_
              refine lv_i2l (pc := 98) hx hb dX1_rare_98 rfl ?_
              refine lv_ladd (pc := 99) hx hb dX1_rare_99 ?_
              obtain ⟨n103, en103, hd⟩ := wt_lt_o hd
              refine lv_topel en103 ?_
              refine lv_lstore (pc := 100) (lv' := [(5, .long n103), (3, .long n100), (10, .ref w92), (0, .ref o_), (1, .int a0), (2, .int a1), (7, .int v69.2.2.1), (8, .int v69.2.2.2.1), (9, .int v69.2.2.2.2)]) hx hb dX1_rare_100 hl (by decide) rfl (fun ls hl => ?_)
              refine lv_ldc2 (pc := 102) hx hb hown (hts _ q1483) dX1_rare_102 ?_
              refine lv_aload (pc := 105) hx hb dX1_rare_105 (lv_at hl 2 rfl) ?_
              obtain ⟨f104, h105, hd⟩ := wt_bd_o hd
              refine hr_getN (pc := 107) hx hb hts hown hK hT hW (hgI_o h105) hf_12_1 (fun _ h => h) q1466 dX1_rare_107 ?_
              refine lv_i2l (pc := 110) hx hb dX1_rare_110 rfl ?_
              refine lv_lmul (pc := 111) hx hb dX1_rare_111 ?_
              refine lv_aload (pc := 112) hx hb dX1_rare_112 (lv_at hl 2 rfl) ?_
              obtain ⟨f106, h107, hd⟩ := wt_bd_o hd
              refine hr_getN (pc := 114) hx hb hts hown hK hT hW (hgI_o h107) hf_12_2 (fun _ h => h) q1468 dX1_rare_114 ?_
              refine lv_i2l (pc := 117) hx hb dX1_rare_117 rfl ?_
              obtain ⟨h108, hd⟩ := wt_ck_o hd
              refine lv_ldiv (pc := 118) hx hb dX1_rare_118 h108 ?_
              refine lv_l2i (pc := 119) hx hb dX1_rare_119 rfl ?_
              obtain ⟨n109, en109, hd⟩ := wt_lt_o hd
              refine lv_tope en109 ?_
              refine lv_istore (pc := 120) (lv' := [(11, .int n109), (5, .long n103), (3, .long n100), (10, .ref w92), (0, .ref o_), (1, .int a0), (2, .int a1), (7, .int v69.2.2.1), (8, .int v69.2.2.2.1), (9, .int v69.2.2.2.2)]) hx hb dX1_rare_120 hl (by decide) rfl (fun ls hl => ?_)
              refine lv_iload (pc := 122) hx hb dX1_rare_122 (lv_at hl 7 rfl) ?_
              refine lv_iconst (pc := 124) (v := -1) hx hb dX1_rare_124 (by decide) ?_
              obtain ⟨w110, hj111, hq112⟩ := wt_bd_o hd
              have hX113 : ∀ w110_ : Int32, w110_ = w110 → ∀ (H : Heap) (locs : List Loc) (ls : Array Slot), Hw G A τ H → va_S A s_.heap H locs → lv_has ls 12 [(0, .ref o_), (1, .int a0), (2, .int a1), (3, .long n100), (5, .long n103), (8, .int v69.2.2.2.1), (9, .int v69.2.2.2.2), (11, .int n109)] → W p_ l e_ (headSpec (ws_ yX1_rare cX1_rare 12 (some .int)) ({ frames := 7, cells := 1, slots := 6, locals := 130 })).room s_ m_ ([.ref o_, .int a0, .int a1] : List Value).toArray below_ meth_ c_ H locs 1 6 (vx_MQ below_ (hXi G A (fun r u => Sum.inl r = out_ ∧ u = τ)) (hXX G A out_) ([.ref o_, .int a0, .int a1] : List Value).toArray s_ 1 6 A) (F0 m_ 140 ls [.int w110_]) := by
                intro w110_ hw_
                have hd := hq112
                subst hw_
                clear hj111 hq112
                intro H locs ls hW hS hl
                refine lv_istore (pc := 140) (lv' := [(7, .int w110_), (0, .ref o_), (1, .int a0), (2, .int a1), (3, .long n100), (5, .long n103), (8, .int v69.2.2.2.1), (9, .int v69.2.2.2.2), (11, .int n109)]) hx hb dX1_rare_140 hl (by decide) rfl (fun ls hl => ?_)
                refine lv_iload (pc := 142) hx hb dX1_rare_142 (lv_at hl 6 rfl) ?_
                refine lv_iload (pc := 144) hx hb dX1_rare_144 (lv_at hl 8 rfl) ?_
                refine va_mmax (pc := 146) hx hb (hml.trans hl.1.symm) hown (hts _ q1485) (hts _ q284) (hts _ q81) (hts _ q285) (Nat.le_of_ble_eq_true rfl) (Nat.le_of_ble_eq_true rfl) (Nat.le_of_ble_eq_true rfl) (Nat.le_of_ble_eq_true rfl) dX1_rare_146 ?_
                obtain ⟨n115, en115, hd⟩ := wt_lt_o hd
                refine lv_tope en115 ?_
                refine lv_istore (pc := 149) (lv' := [(8, .int n115), (7, .int w110_), (0, .ref o_), (1, .int a0), (2, .int a1), (3, .long n100), (5, .long n103), (9, .int v69.2.2.2.2), (11, .int n109)]) hx hb dX1_rare_149 hl (by decide) rfl (fun ls hl => ?_)
                obtain ⟨n116, en116, hd⟩ := wt_lt_o hd
                refine lv_iinc (pc := 151) (k := 7) (v := n116) (lv' := [(9, .int n116), (8, .int n115), (7, .int w110_), (0, .ref o_), (1, .int a0), (2, .int a1), (3, .long n100), (5, .long n103), (11, .int n109)]) hx hb dX1_rare_151 hl rfl en116.symm (by decide) rfl (fun ls hl => ?_)
                refine lv_goto (pc := 154) (tgt := 38) hx hb dX1_rare_154 (by decide) ?_
                exact ih75 _ (wt_again hd hk74) _ _ _ hW hS (lv_sub hl [3, 4, 5, 6, 7, 2, 1, 0] rfl)
              have hd := hj111
              refine lv_icmp_ne (pc := 125) (tgt := 133) hx hb dX1_rare_125 (by decide) (fun c114 => ?_) (fun c114 => ?_)
              · have hd := wt_if hd c114
                refine lv_iload (pc := 133) hx hb dX1_rare_133 (lv_at hl 7 rfl) ?_
                refine lv_iload (pc := 135) hx hb dX1_rare_135 (lv_at hl 0 rfl) ?_
                refine va_mmin (pc := 137) hx hb (hml.trans hl.1.symm) hown (hts _ q1484) (hts _ q302) (hts _ q81) (hts _ q303) (Nat.le_of_ble_eq_true rfl) (Nat.le_of_ble_eq_true rfl) (Nat.le_of_ble_eq_true rfl) (Nat.le_of_ble_eq_true rfl) dX1_rare_137 ?_
                exact hX113 (wt_min v69.2.2.1 n109) (Option.some.inj hd) _ _ _ hW hS (lv_sub hl [4, 5, 6, 2, 1, 8, 9, 0] rfl)
              · have hd := wt_it hd c114
                refine lv_iload (pc := 128) hx hb dX1_rare_128 (lv_at hl 0 rfl) ?_
                refine lv_goto (pc := 130) (tgt := 140) hx hb dX1_rare_130 (by decide) ?_
                exact hX113 n109 (Option.some.inj hd) _ _ _ hW hS (lv_sub hl [4, 5, 6, 2, 1, 8, 9, 0] rfl)
            · have hd := wt_if hd c97
              refine lv_goto (pc := 79) (tgt := 151) hx hb dX1_rare_79 (by decide) ?_
              obtain ⟨n117, en117, hd⟩ := wt_lt_o hd
              refine lv_iinc (pc := 151) (k := 8) (v := n117) (lv' := [(9, .int n117), (10, .ref w92), (0, .ref o_), (1, .int a0), (2, .int a1), (3, .long v69.1), (5, .long v69.2.1), (7, .int v69.2.2.1), (8, .int v69.2.2.2.1)]) hx hb dX1_rare_151 hl rfl en117.symm (by decide) rfl (fun ls hl => ?_)
              refine lv_goto (pc := 154) (tgt := 38) hx hb dX1_rare_154 (by decide) ?_
              exact ih75 _ (wt_again hd hk74) _ _ _ hW hS (lv_sub hl [2, 3, 4, 5, 6, 7, 8, 0] rfl)
      obtain ⟨k77, hL71⟩ := wt_whC_o hL71
      exact hI78 k77 _ hL71 _ _ _ hW hS (lv_sub hl [5, 6, 7, 4, 3, 2, 1, 0] rfl)
  have hd := hj4
  refine lv_if_eq (pc := 4) (tgt := 20) hx hb dX1_rare_4 (by decide) (fun c7 => ?_) (fun c7 => ?_)
  · have hd := wt_it hd c7
    exact hX6 () (Option.some.inj hd) _ _ _ hW hS hl
  · have hd := wt_if hd c7
    refine lv_iload_n (pc := 7) hx hb dX1_rare_7 rfl (lv_at hl 2 rfl) ?_
    refine lv_if_lt (pc := 8) (tgt := 20) hx hb dX1_rare_8 (by decide) (fun c8 => ?_) (fun c8 => ?_)
    · have hd := wt_it hd c8
      exact hX6 () (Option.some.inj hd) _ _ _ hW hS hl
    · have hd := wt_if hd c8
      refine lv_iload_n (pc := 11) hx hb dX1_rare_11 rfl (lv_at hl 2 rfl) ?_
      refine lv_iconst (pc := 12) (v := 2) hx hb dX1_rare_12 (by decide) ?_
      refine lv_icmp_gt (pc := 13) (tgt := 20) hx hb dX1_rare_13 (by decide) (fun c9 => ?_) (fun c9 => ?_)
      · have hd := wt_it hd c9
        exact hX6 () (Option.some.inj hd) _ _ _ hW hS hl
      · have hd := wt_if hd c9
        refine lv_iconst (pc := 16) (v := 1) hx hb dX1_rare_16 (by decide) ?_
        refine lv_goto (pc := 17) (tgt := 21) hx hb dX1_rare_17 (by decide) ?_
        obtain ⟨w10, hc11, hd⟩ := wt_bd_o hd
        refine kX1_need (pc := 21) hfl hx hb hml hown hts hC hW hS hc11 hl.1 (Nat.le_of_ble_eq_true rfl) ⟨Nat.le_of_ble_eq_true rfl, Nat.le_of_ble_eq_true rfl⟩ ⟨(Nat.le_of_ble_eq_true rfl), (Nat.le_of_ble_eq_true rfl)⟩ q676 dX1_rare_21 (fun x_ hx_ E_ ce_ q9_ H locs hXB hS hce hvn hfc => ?_) (fun o12 ho_ H locs hW hS => ?_)
        · have hd := wt_rs_r hx_ hd
          have hd := wt_rs_r (Option.some.inj hd) hq5
          exact hx_out (fun z hz => (hno z hz).elim) hlocks hce hvn hfc (Option.some.inj hd) hXB hS (Nat.le_of_ble_eq_true rfl) (Nat.le_of_ble_eq_true rfl)
        · have hd := wt_rs_l ho_ hd
          refine lv_lconst (pc := 24) (v := 0) hx hb dX1_rare_24 (by decide) ?_
          refine lv_lstore_n (pc := 25) (lv' := [(3, .long (0 : Int64)), (0, .ref o_), (1, .int a0), (2, .int a1)]) hx hb dX1_rare_25 rfl hl (by decide) rfl (fun ls hl => ?_)
          refine lv_lconst (pc := 26) (v := 0) hx hb dX1_rare_26 (by decide) ?_
          refine lv_lstore (pc := 27) (lv' := [(5, .long (0 : Int64)), (3, .long (0 : Int64)), (0, .ref o_), (1, .int a0), (2, .int a1)]) hx hb dX1_rare_27 hl (by decide) rfl (fun ls hl => ?_)
          refine lv_iconst (pc := 29) (v := -1) hx hb dX1_rare_29 (by decide) ?_
          refine lv_istore (pc := 30) (lv' := [(7, .int (-1 : Int32)), (5, .long (0 : Int64)), (3, .long (0 : Int64)), (0, .ref o_), (1, .int a0), (2, .int a1)]) hx hb dX1_rare_30 hl (by decide) rfl (fun ls hl => ?_)
          refine lv_iconst (pc := 32) (v := -1) hx hb dX1_rare_32 (by decide) ?_
          refine lv_istore (pc := 33) (lv' := [(8, .int (-1 : Int32)), (7, .int (-1 : Int32)), (5, .long (0 : Int64)), (3, .long (0 : Int64)), (0, .ref o_), (1, .int a0), (2, .int a1)]) hx hb dX1_rare_33 hl (by decide) rfl (fun ls hl => ?_)
          refine lv_iconst (pc := 35) (v := 0) hx hb dX1_rare_35 (by decide) ?_
          refine lv_istore (pc := 36) (lv' := [(9, .int (0 : Int32)), (8, .int (-1 : Int32)), (7, .int (-1 : Int32)), (5, .long (0 : Int64)), (3, .long (0 : Int64)), (0, .ref o_), (1, .int a0), (2, .int a1)]) hx hb dX1_rare_36 hl (by decide) rfl (fun ls hl => ?_)
          obtain ⟨w14, hL15, hq16⟩ := wt_bd_o hd
          have hX17 : ∀ w14_ : Int64 × Int64 × Int32 × Int32, w14_ = w14 → ∀ (H : Heap) (locs : List Loc) (ls : Array Slot), Hw G A τ H → va_S A s_.heap H locs → lv_has ls 12 [(2, .int a1), (3, .long w14_.1), (5, .long w14_.2.1), (7, .int w14_.2.2.1), (8, .int w14_.2.2.2)] → W p_ l e_ (headSpec (ws_ yX1_rare cX1_rare 12 (some .int)) ({ frames := 7, cells := 1, slots := 6, locals := 130 })).room s_ m_ ([.ref o_, .int a0, .int a1] : List Value).toArray below_ meth_ c_ H locs 1 6 (vx_MQ below_ (hXi G A (fun r u => Sum.inl r = out_ ∧ u = τ)) (hXX G A out_) ([.ref o_, .int a0, .int a1] : List Value).toArray s_ 1 6 A) (F0 m_ 157 ls []) := by
            intro w14_ hw_
            have hd := hq16
            subst hw_
            clear hL15 hq16
            intro H locs ls hW hS hl
            refine lv_lload (pc := 157) hx hb dX1_rare_157 (lv_at hl 2 rfl) ?_
            refine lv_lconst (pc := 159) (v := 0) hx hb dX1_rare_159 (by decide) ?_
            refine W.lcmp (pc := 160) hx hb dX1_rare_160 ?_
            refine lv_if_ne (pc := 161) (tgt := 166) hx hb dX1_rare_161 (by decide) (fun c62 => ?_) (fun c62 => ?_)
            · have hd := wt_if hd c62
              refine lv_iload_n (pc := 166) hx hb dX1_rare_166 rfl (lv_at hl 0 rfl) ?_
              refine lv_if_ne (pc := 167) (tgt := 182) hx hb dX1_rare_167 (by decide) (fun c63 => ?_) (fun c63 => ?_)
              · have hd := wt_if hd c63
                refine lv_iload_n (pc := 182) hx hb dX1_rare_182 rfl (lv_at hl 0 rfl) ?_
                refine lv_iconst (pc := 183) (v := 1) hx hb dX1_rare_183 (by decide) ?_
                refine lv_icmp_ne (pc := 184) (tgt := 192) hx hb dX1_rare_184 (by decide) (fun c64 => ?_) (fun c64 => ?_)
                · have hd := wt_if hd c64
                  refine lv_iload (pc := 192) hx hb dX1_rare_192 (lv_at hl 4 rfl) ?_
                  have hd := wt_rs_r (Option.some.inj hd) hq5
                  refine vx_ret ?_
                  exact hx_iret hx hb hr rfl hlocks ⟨(Option.some.inj hd), rfl⟩ hW hS dX1_rare_194 (Nat.le_of_ble_eq_true rfl) (Nat.le_of_ble_eq_true rfl)
                · have hd := wt_it hd c64
                  refine lv_iload (pc := 187) hx hb dX1_rare_187 (lv_at hl 3 rfl) ?_
                  refine lv_goto (pc := 189) (tgt := 194) hx hb dX1_rare_189 (by decide) ?_
                  have hd := wt_rs_r (Option.some.inj hd) hq5
                  refine vx_ret ?_
                  exact hx_iret hx hb hr rfl hlocks ⟨(Option.some.inj hd), rfl⟩ hW hS dX1_rare_194 (Nat.le_of_ble_eq_true rfl) (Nat.le_of_ble_eq_true rfl)
              · have hd := wt_it hd c63
                refine lv_ldc2 (pc := 170) hx hb hown (hts _ q1483) dX1_rare_170 ?_
                refine lv_lload_n (pc := 173) hx hb dX1_rare_173 rfl (lv_at hl 1 rfl) ?_
                refine lv_lmul (pc := 174) hx hb dX1_rare_174 ?_
                refine lv_lload (pc := 175) hx hb dX1_rare_175 (lv_at hl 2 rfl) ?_
                obtain ⟨h65, hd⟩ := wt_ck_o hd
                refine lv_ldiv (pc := 177) hx hb dX1_rare_177 h65 ?_
                refine lv_l2i (pc := 178) hx hb dX1_rare_178 rfl ?_
                refine lv_goto (pc := 179) (tgt := 194) hx hb dX1_rare_179 (by decide) ?_
                have hd := wt_rs_r (Option.some.inj hd) hq5
                refine vx_ret ?_
                exact hx_iret hx hb hr rfl hlocks ⟨(Option.some.inj hd), rfl⟩ hW hS dX1_rare_194 (Nat.le_of_ble_eq_true rfl) (Nat.le_of_ble_eq_true rfl)
            · have hd := wt_it hd c62
              refine lv_iconst (pc := 164) (v := -1) hx hb dX1_rare_164 (by decide) ?_
              have hd := wt_rs_r (Option.some.inj hd) hq5
              refine vx_ret ?_
              exact hx_iret hx hb hr rfl hlocks ⟨(Option.some.inj hd), rfl⟩ hW hS dX1_rare_165 (Nat.le_of_ble_eq_true rfl) (Nat.le_of_ble_eq_true rfl)
          have hI22 : ∀ (k21 : Nat) (v13 : Int64 × Int64 × Int32 × Int32 × Int32), wt_wh (bX1_rare_1 τ o_ a0) k21 v13 = some w14 → ∀ (H : Heap) (locs : List Loc) (ls : Array Slot), Hw G A τ H → va_S A s_.heap H locs → lv_has ls 12 [(0, .ref o_), (1, .int a0), (2, .int a1), (3, .long v13.1), (5, .long v13.2.1), (7, .int v13.2.2.1), (8, .int v13.2.2.2.1), (9, .int v13.2.2.2.2)] → W p_ l e_ (headSpec (ws_ yX1_rare cX1_rare 12 (some .int)) ({ frames := 7, cells := 1, slots := 6, locals := 130 })).room s_ m_ ([.ref o_, .int a0, .int a1] : List Value).toArray below_ meth_ c_ H locs 1 6 (vx_MQ below_ (hXi G A (fun r u => Sum.inl r = out_ ∧ u = τ)) (hXX G A out_) ([.ref o_, .int a0, .int a1] : List Value).toArray s_ 1 6 A) (F0 m_ 38 ls []) := by
            intro k21
            induction k21 with
            | zero => intro v13 hd; exact absurd hd wt_wh_z
            | succ k21 ih19 =>
              intro v13 hd
              intro H locs ls hW hS hl
              obtain ⟨r20, hd, hk18⟩ := wt_wh_o hd
              unfold bX1_rare_1 at hd
              refine lv_iload (pc := 38) hx hb dX1_rare_38 (lv_at hl 7 rfl) ?_
              refine lv_aload_n (pc := 40) hx hb dX1_rare_40 rfl (lv_at hl 0 rfl) ?_
              obtain ⟨ad23, h24, hd⟩ := wt_bd_o hd
              refine hr_get (pc := 41) hx hb hts hown hK hW (hgA_o h24) hf_0_1 (fun _ h => h) q536 dX1_rare_41 ?_
              obtain ⟨ad25, h26, hd⟩ := wt_bd_o hd
              refine hr_getN (pc := 44) hx hb hts hown hK hT hW (hgA_o h26) hf_2_1 (fun _ h => h) q517 dX1_rare_44 ?_
              obtain ⟨h27, hd⟩ := wt_ck_o hd
              obtain ⟨w28, hc29, hd⟩ := wt_bd_o hd
              refine kJ2_size (pc := 47) hx hb hml hown hts hC hW hS h27 hc29 hl.1 (Nat.le_of_ble_eq_true rfl) ⟨Nat.le_of_ble_eq_true rfl, Nat.le_of_ble_eq_true rfl⟩ ⟨Nat.le_of_ble_eq_true rfl, Nat.le_of_ble_eq_true rfl⟩ q666 dX1_rare_47 (fun H locs hW hS => ?_)
              refine lv_icmp_ge (pc := 50) (tgt := 157) hx hb dX1_rare_50 (by decide) (fun c30 => ?_) (fun c30 => ?_)
              · have hd := wt_it hd c30
                exact hX17 (v13.1, v13.2.1, v13.2.2.1, v13.2.2.2.1) (wt_exit hd hk18) _ _ _ hW hS (lv_sub hl [2, 3, 4, 5, 6] rfl)
              · have hd := wt_if hd c30
                refine lv_aload_n (pc := 53) hx hb dX1_rare_53 rfl (lv_at hl 0 rfl) ?_
                obtain ⟨ad31, h32, hd⟩ := wt_bd_o hd
                refine hr_get (pc := 54) hx hb hts hown hK hW (hgA_o h32) hf_0_1 (fun _ h => h) q536 dX1_rare_54 ?_
                obtain ⟨ad33, h34, hd⟩ := wt_bd_o hd
                refine hr_getN (pc := 57) hx hb hts hown hK hT hW (hgA_o h34) hf_2_1 (fun _ h => h) q517 dX1_rare_57 ?_
                refine lv_iload (pc := 60) hx hb dX1_rare_60 (lv_at hl 7 rfl) ?_
                obtain ⟨h35, hd⟩ := wt_ck_o hd
                obtain ⟨w36, hc37, hd⟩ := wt_bd_o hd
                refine kJ2_get (pc := 62) hx hb hml hown hts hC hW hS h35 hc37 hl.1 (Nat.le_of_ble_eq_true rfl) ⟨Nat.le_of_ble_eq_true rfl, Nat.le_of_ble_eq_true rfl⟩ ⟨Nat.le_of_ble_eq_true rfl, Nat.le_of_ble_eq_true rfl⟩ q1024 dX1_rare_62 (fun H locs hW hS => ?_)
                obtain ⟨h38, hd⟩ := wt_ck_o hd
                refine hr_cast (pc := 65) (ci := 12) hx hb hts hown hK hW h38 rfl rfl q1457 dX1_rare_65 ?_
                refine lv_astore (pc := 68) (lv' := [(10, .ref w36), (0, .ref o_), (1, .int a0), (2, .int a1), (3, .long v13.1), (5, .long v13.2.1), (7, .int v13.2.2.1), (8, .int v13.2.2.2.1), (9, .int v13.2.2.2.2)]) hx hb dX1_rare_68 hl (by decide) rfl (fun ls hl => ?_)
                refine lv_aload (pc := 70) hx hb dX1_rare_70 (lv_at hl 0 rfl) ?_
                obtain ⟨f39, h40, hd⟩ := wt_bd_o hd
                refine hr_getN (pc := 72) hx hb hts hown hK hT hW (hgI_o h40) hf_12_0 (fun _ h => h) q1464 dX1_rare_72 ?_
                refine lv_iload_n (pc := 75) hx hb dX1_rare_75 rfl (lv_at hl 2 rfl) ?_
                refine lv_icmp_eq (pc := 76) (tgt := 82) hx hb dX1_rare_76 (by decide) (fun c41 => ?_) (fun c41 => ?_)
                · have hd := wt_it hd c41
                  refine lv_lload_n (pc := 82) hx hb dX1_rare_82 rfl (lv_at hl 4 rfl) ?_
                  refine lv_aload (pc := 83) hx hb dX1_rare_83 (lv_at hl 0 rfl) ?_
                  obtain ⟨f42, h43, hd⟩ := wt_bd_o hd
                  refine hr_getN (pc := 85) hx hb hts hown hK hT hW (hgI_o h43) hf_12_1 (fun _ h => h) q1466 dX1_rare_85 ?_
                  refine lv_i2l (pc := 88) hx hb dX1_rare_88 rfl ?_
                  refine lv_ladd (pc := 89) hx hb dX1_rare_89 ?_
                  obtain ⟨n44, en44, hd⟩ := wt_lt_o hd
                  refine lv_topel en44 ?_
                  refine lv_lstore_n (pc := 90) (lv' := [(3, .long n44), (10, .ref w36), (0, .ref o_), (1, .int a0), (2, .int a1), (5, .long v13.2.1), (7, .int v13.2.2.1), (8, .int v13.2.2.2.1), (9, .int v13.2.2.2.2)]) hx hb dX1_rare_90 rfl hl (by decide) rfl (fun ls hl => ?_)
                  refine lv_lload (pc := 91) hx hb dX1_rare_91 (lv_at hl 5 rfl) ?_
                  refine lv_aload (pc := 93) hx hb dX1_rare_93 (lv_at hl 1 rfl) ?_
                  obtain ⟨f45, h46, hd⟩ := wt_bd_o hd
                  refine hr_getN (pc := 95) hx hb hts hown hK hT hW (hgI_o h46) hf_12_2 (fun _ h => h) q1468 dX1_rare_95 ?_
                  refine lv_i2l (pc := 98) hx hb dX1_rare_98 rfl ?_
                  refine lv_ladd (pc := 99) hx hb dX1_rare_99 ?_
                  obtain ⟨n47, en47, hd⟩ := wt_lt_o hd
                  refine lv_topel en47 ?_
                  refine lv_lstore (pc := 100) (lv' := [(5, .long n47), (3, .long n44), (10, .ref w36), (0, .ref o_), (1, .int a0), (2, .int a1), (7, .int v13.2.2.1), (8, .int v13.2.2.2.1), (9, .int v13.2.2.2.2)]) hx hb dX1_rare_100 hl (by decide) rfl (fun ls hl => ?_)
                  refine lv_ldc2 (pc := 102) hx hb hown (hts _ q1483) dX1_rare_102 ?_
                  refine lv_aload (pc := 105) hx hb dX1_rare_105 (lv_at hl 2 rfl) ?_
                  obtain ⟨f48, h49, hd⟩ := wt_bd_o hd
                  refine hr_getN (pc := 107) hx hb hts hown hK hT hW (hgI_o h49) hf_12_1 (fun _ h => h) q1466 dX1_rare_107 ?_
                  refine lv_i2l (pc := 110) hx hb dX1_rare_110 rfl ?_
                  refine lv_lmul (pc := 111) hx hb dX1_rare_111 ?_
                  refine lv_aload (pc := 112) hx hb dX1_rare_112 (lv_at hl 2 rfl) ?_
                  obtain ⟨f50, h51, hd⟩ := wt_bd_o hd
                  refine hr_getN (pc := 114) hx hb hts hown hK hT hW (hgI_o h51) hf_12_2 (fun _ h => h) q1468 dX1_rare_114 ?_
                  refine lv_i2l (pc := 117) hx hb dX1_rare_117 rfl ?_
                  obtain ⟨h52, hd⟩ := wt_ck_o hd
                  refine lv_ldiv (pc := 118) hx hb dX1_rare_118 h52 ?_
                  refine lv_l2i (pc := 119) hx hb dX1_rare_119 rfl ?_
                  obtain ⟨n53, en53, hd⟩ := wt_lt_o hd
                  refine lv_tope en53 ?_
                  refine lv_istore (pc := 120) (lv' := [(11, .int n53), (5, .long n47), (3, .long n44), (10, .ref w36), (0, .ref o_), (1, .int a0), (2, .int a1), (7, .int v13.2.2.1), (8, .int v13.2.2.2.1), (9, .int v13.2.2.2.2)]) hx hb dX1_rare_120 hl (by decide) rfl (fun ls hl => ?_)
                  refine lv_iload (pc := 122) hx hb dX1_rare_122 (lv_at hl 7 rfl) ?_
                  refine lv_iconst (pc := 124) (v := -1) hx hb dX1_rare_124 (by decide) ?_
                  obtain ⟨w54, hj55, hq56⟩ := wt_bd_o hd
                  have hX57 : ∀ w54_ : Int32, w54_ = w54 → ∀ (H : Heap) (locs : List Loc) (ls : Array Slot), Hw G A τ H → va_S A s_.heap H locs → lv_has ls 12 [(0, .ref o_), (1, .int a0), (2, .int a1), (3, .long n44), (5, .long n47), (8, .int v13.2.2.2.1), (9, .int v13.2.2.2.2), (11, .int n53)] → W p_ l e_ (headSpec (ws_ yX1_rare cX1_rare 12 (some .int)) ({ frames := 7, cells := 1, slots := 6, locals := 130 })).room s_ m_ ([.ref o_, .int a0, .int a1] : List Value).toArray below_ meth_ c_ H locs 1 6 (vx_MQ below_ (hXi G A (fun r u => Sum.inl r = out_ ∧ u = τ)) (hXX G A out_) ([.ref o_, .int a0, .int a1] : List Value).toArray s_ 1 6 A) (F0 m_ 140 ls [.int w54_]) := by
                    intro w54_ hw_
                    have hd := hq56
                    subst hw_
                    clear hj55 hq56
                    intro H locs ls hW hS hl
                    refine lv_istore (pc := 140) (lv' := [(7, .int w54_), (0, .ref o_), (1, .int a0), (2, .int a1), (3, .long n44), (5, .long n47), (8, .int v13.2.2.2.1), (9, .int v13.2.2.2.2), (11, .int n53)]) hx hb dX1_rare_140 hl (by decide) rfl (fun ls hl => ?_)
                    refine lv_iload (pc := 142) hx hb dX1_rare_142 (lv_at hl 6 rfl) ?_
                    refine lv_iload (pc := 144) hx hb dX1_rare_144 (lv_at hl 8 rfl) ?_
                    refine va_mmax (pc := 146) hx hb (hml.trans hl.1.symm) hown (hts _ q1485) (hts _ q284) (hts _ q81) (hts _ q285) (Nat.le_of_ble_eq_true rfl) (Nat.le_of_ble_eq_true rfl) (Nat.le_of_ble_eq_true rfl) (Nat.le_of_ble_eq_true rfl) dX1_rare_146 ?_
                    obtain ⟨n59, en59, hd⟩ := wt_lt_o hd
                    refine lv_tope en59 ?_
                    refine lv_istore (pc := 149) (lv' := [(8, .int n59), (7, .int w54_), (0, .ref o_), (1, .int a0), (2, .int a1), (3, .long n44), (5, .long n47), (9, .int v13.2.2.2.2), (11, .int n53)]) hx hb dX1_rare_149 hl (by decide) rfl (fun ls hl => ?_)
                    obtain ⟨n60, en60, hd⟩ := wt_lt_o hd
                    refine lv_iinc (pc := 151) (k := 7) (v := n60) (lv' := [(9, .int n60), (8, .int n59), (7, .int w54_), (0, .ref o_), (1, .int a0), (2, .int a1), (3, .long n44), (5, .long n47), (11, .int n53)]) hx hb dX1_rare_151 hl rfl en60.symm (by decide) rfl (fun ls hl => ?_)
                    refine lv_goto (pc := 154) (tgt := 38) hx hb dX1_rare_154 (by decide) ?_
                    exact ih19 _ (wt_again hd hk18) _ _ _ hW hS (lv_sub hl [3, 4, 5, 6, 7, 2, 1, 0] rfl)
                  have hd := hj55
                  refine lv_icmp_ne (pc := 125) (tgt := 133) hx hb dX1_rare_125 (by decide) (fun c58 => ?_) (fun c58 => ?_)
                  · have hd := wt_if hd c58
                    refine lv_iload (pc := 133) hx hb dX1_rare_133 (lv_at hl 7 rfl) ?_
                    refine lv_iload (pc := 135) hx hb dX1_rare_135 (lv_at hl 0 rfl) ?_
                    refine va_mmin (pc := 137) hx hb (hml.trans hl.1.symm) hown (hts _ q1484) (hts _ q302) (hts _ q81) (hts _ q303) (Nat.le_of_ble_eq_true rfl) (Nat.le_of_ble_eq_true rfl) (Nat.le_of_ble_eq_true rfl) (Nat.le_of_ble_eq_true rfl) dX1_rare_137 ?_
                    exact hX57 (wt_min v13.2.2.1 n53) (Option.some.inj hd) _ _ _ hW hS (lv_sub hl [4, 5, 6, 2, 1, 8, 9, 0] rfl)
                  · have hd := wt_it hd c58
                    refine lv_iload (pc := 128) hx hb dX1_rare_128 (lv_at hl 0 rfl) ?_
                    refine lv_goto (pc := 130) (tgt := 140) hx hb dX1_rare_130 (by decide) ?_
                    exact hX57 n53 (Option.some.inj hd) _ _ _ hW hS (lv_sub hl [4, 5, 6, 2, 1, 8, 9, 0] rfl)
                · have hd := wt_if hd c41
                  refine lv_goto (pc := 79) (tgt := 151) hx hb dX1_rare_79 (by decide) ?_
                  obtain ⟨n61, en61, hd⟩ := wt_lt_o hd
                  refine lv_iinc (pc := 151) (k := 8) (v := n61) (lv' := [(9, .int n61), (10, .ref w36), (0, .ref o_), (1, .int a0), (2, .int a1), (3, .long v13.1), (5, .long v13.2.1), (7, .int v13.2.2.1), (8, .int v13.2.2.2.1)]) hx hb dX1_rare_151 hl rfl en61.symm (by decide) rfl (fun ls hl => ?_)
                  refine lv_goto (pc := 154) (tgt := 38) hx hb dX1_rare_154 (by decide) ?_
                  exact ih19 _ (wt_again hd hk18) _ _ _ hW hS (lv_sub hl [2, 3, 4, 5, 6, 7, 8, 0] rfl)
          obtain ⟨k21, hL15⟩ := wt_whC_o hL15
          exact hI22 k21 _ hL15 _ _ _ hW hS (lv_sub hl [5, 6, 7, 4, 3, 2, 1, 0] rfl)
theorem kX1_rare {p : Program} {l : Launch} {e : Env} {R : Room} {s : State} {m : MethodId} {args : Array Value} {below : List Frame} {meth : Method} {c : Code} {H : Heap} {locs : List Loc} {cells slots : Nat} {Q : State → Prop} {cc : ByteArray} {pc : Nat} {ls : Array Slot} {rest : List Value} {nL : Nat} {own : String} {index : Nat} {G : HG} {A : Nat → Prop} {τ : HP} {o_ : Nat} {a0 : Int32} {a1 : Int32} {out_ : (Int32) ⊕ (Nat × Nat × HP)} (hfl : l.stackTraces = false) (hx : p.tables.exec = Jvm.exec) (hb : c.code = cc) (hml : c.maxLocals = nL) (hown : s.vm.findClass own = some m.cls) (hts : ∀ w ∈ lw_all, w.before args s = true) (hC : Hcx G A s) (hW : Hw G A τ H) (hS : va_S A s.heap H locs) (hrc : hcl τ o_ = some 0) (hd : eX1_rare τ o_ a0 a1 = some out_) (hsz : ls.size = nL) (hrm : (rest.map fun v => v.category).sum ≤ 8) (hR : 8 ≤ R.frames ∧ 161 ≤ R.locals) (hcs : (cells + 1) ≤ R.cells ∧ (slots + 6) ≤ R.slots) (hlk : Cond.methodLink own index yX1_rare ∈ lw_all) (hdg : decode cc pc = .ok (.invokevirtual index, 3)) (kx : ∀ x_ : Nat × Nat × HP, Sum.inr x_ = out_ → ∀ (E : String) (ce : Cell) (q9 : Addr) (H1 : Heap) (locs1 : List Loc), hXb G A E q9 x_ H1 → va_S A s.heap H1 locs1 → H1[q9]? = some ce → ce.vm = .none → s.vm.findClass E = some ce.cls → vx_W p l e R s m args below meth c H1 locs1 (cells + 1) (slots + 6) Q (F0 m pc ls rest) q9) (kk : ∀ o_1 : Int32, Sum.inl o_1 = out_ → ∀ (H1 : Heap) (locs1 : List Loc), Hw G A τ H1 → va_S A s.heap H1 locs1 → W p l e R s m args below meth c H1 locs1 (cells + 1) (slots + 6) Q (F0 m (pc + 3) ls (.int o_1 :: rest))) : W p l e R s m args below meth c H locs cells slots Q (F0 m pc ls (.int a1 :: .int a0 :: .ref o_ :: rest)) := by
  refine vx_calli (vx_runV (As := [.int a0, .int a1]) (rest := rest) ⟨hx, hb, hml, hown, hts⟩ (wX1_rare l hfl hd) (cwV 2 hts (lw_V hlk q1480 q1481 q66 q1482) rfl rfl rfl (by decide +kernel) hR) (hr_preV hC hW hS hrc rfl rfl) rfl rfl hsz rfl (lv_room hrm) hdg hcs) hS (fun _ _ h => h) (fun _ h => h) (fun _ _ h => h) (fun E ce q9 u t H1 locs1 ht hvm hp hB hz hk hS1 hce hvn hfc => ?_) (fun r u t H1 locs1 ht hvm hp hB hz hk hS1 => ?_)
  · rw [ht] at hB
    exact kx u hp E ce q9 H1 locs1 hB hS1 hce hvn hfc
  · have hW1 : Hw G A u t.heap := hB
    rw [ht] at hW1
    obtain ⟨hp, rfl⟩ := hp
    exact kk r hp H1 locs1 hW1 hS1
noncomputable def bX1_isLooked_1 (τ : HP) (o_ : Nat) (a0 : Int32) (a1 : Int32) (a2 : Int32) (v1 : Int32) : Option ((Int32) ⊕ ((Unit) ⊕ (Int32))) :=
  wt_bd (hgA τ o_ [0] 1) fun ad11 => wt_bd (hgA τ ad11 [2] 0) fun ad13 => wt_ck (hcl τ ad13 = some 13) <| wt_bd (eJ2_size τ ad13) fun w16 => if w16 ≤ v1 then (some (.inr (.inl ()))) else (wt_bd (hgA τ o_ [0] 1) fun ad19 => wt_bd (hgA τ ad19 [2] 0) fun ad21 => wt_ck (hcl τ ad21 = some 13) <| wt_bd (eJ2_get τ ad21 v1) fun w24 => wt_ck (hcl τ w24 = some 10) <| wt_bd (hgI τ w24 [10] 0) fun f27 => if f27 = a0 then (wt_bd (hgI τ w24 [10] 1) fun f31 => if f31 = a2 then (wt_bd (hgA τ o_ [0] 0) fun ad35 => wt_bd (hgA τ ad35 [1] 3) fun ad37 => wt_bd (haI τ ad37 0) fun z39 => wt_ck (vp_in a1 z39.1) <| wt_bd (hgI τ w24 [10] 2) fun f42 => if (((z39.2 a1.toNatClampNeg) >>> (f42 &&& 31)) &&& (1 : Int32)) = (1 : Int32) then (some (.inr (.inr (1 : Int32)))) else (wt_lt (v1 + (1 : Int32)) fun n45 => some (.inl n45))) else (wt_lt (v1 + (1 : Int32)) fun n34 => some (.inl n34))) else (wt_lt (v1 + (1 : Int32)) fun n30 => some (.inl n30)))
noncomputable def eX1_isLooked (τ : HP) (o_ : Nat) (a0 : Int32) (a1 : Int32) (a2 : Int32) : Option (Int32) :=
  wt_bd (wt_whC (bX1_isLooked_1 τ o_ a0 a1 a2) (0 : Int32)) fun w2 => wt_rs w2 (fun w2 => some (0 : Int32)) (fun z_ => some z_)
set_option maxHeartbeats 4000000 in
theorem wX1_isLooked (l : Launch) {G : HG} {A : Nat → Prop} {τ : HP} {o_ : Nat} {a0 : Int32} {a1 : Int32} {a2 : Int32} {out_ : Int32} (hd : eX1_isLooked τ o_ a0 a1 a2 = some out_) : Met l yX1_isLooked (ws_ yX1_isLooked cX1_isLooked 6 (some .boolean)) ({ frames := 3, cells := 0, slots := 0, locals := 64 }) (hPc G A τ [.ref o_, .int a0, .int a1, .int a2]) (hQi G out_ τ A) 0 0 A := by
  refine Met.ofW (cc := cX1_isLooked) (maxL := 6) (ret := (some .boolean)) (by decide) rfl ?_
  intro p_ e_ s_ m_ args_ below_ meth_ c_ s₁_ B hml hv
  obtain ⟨rfl, hW, hC⟩ := hv
  have hx := B.exec
  have hb := B.bytes
  have hr := B.returns
  have hts := atoms_spec (ws := (ws_ yX1_isLooked cX1_isLooked 6 (some .boolean))) B.pre
  have hts : ∀ w ∈ lw_all, w.before _ s_ = true := fun w h => hts w (List.mem_cons_of_mem _ h)
  have hown : s_.vm.findClass RX1 = some m_.cls := findClass_of_methodNamed B.named
  have hlocks := B.notSynchronized
  have hK := hC.1
  have hT := hC.2.1
  have hL := hC.2.2.1
  have hZ := hC.2.2.2.2.1
  have hA := hC.2.2.2.2.2
  have hS : va_S A s_.heap s_.heap [] := va_S.rf
  have hl := lv_entry ([.ref o_, .int a0, .int a1, .int a2]) (n := 6) (Nat.le_of_ble_eq_true rfl)
  rw [lg_entry_eq]
  generalize (lg_sl ([.ref o_, .int a0, .int a1, .int a2]) ++ List.replicate (6 - (lg_sl ([.ref o_, .int a0, .int a1, .int a2])).length) Slot.unset).toArray = ls at hl ⊢
  have hl : lv_has ls 6 [(0, .ref o_), (1, .int a0), (2, .int a1), (3, .int a2)] := hl
  unfold eX1_isLooked at hd
  refine lv_iconst (pc := 0) (v := 0) hx hb dX1_isLooked_0 (by decide) ?_
  refine lv_istore (pc := 1) (lv' := [(4, .int (0 : Int32)), (0, .ref o_), (1, .int a0), (2, .int a1), (3, .int a2)]) hx hb dX1_isLooked_1 hl (by decide) rfl (fun ls hl => ?_)
  obtain ⟨w2, hL3, hq4⟩ := wt_bd_o hd
  have hX5 : ∀ w2_ : Unit, (Sum.inl w2_ : (Unit) ⊕ _) = w2 → ∀ (H : Heap) (locs : List Loc) (ls : Array Slot), Hw G A τ H → va_S A s_.heap H locs → lv_has ls 6 [] → W p_ l e_ (headSpec (ws_ yX1_isLooked cX1_isLooked 6 (some .boolean)) ({ frames := 3, cells := 0, slots := 0, locals := 64 })).room s_ m_ ([.ref o_, .int a0, .int a1, .int a2] : List Value).toArray below_ meth_ c_ H locs 0 0 (MQ below_ (hQi G out_ τ A) ([.ref o_, .int a0, .int a1, .int a2] : List Value).toArray s_ 0 0 A) (F0 m_ 82 ls []) := by
    intro w2_ hw_
    have hd := wt_rs_l hw_ hq4
    clear hL3 hq4
    intro H locs ls hW hS hl
    refine lv_iconst (pc := 82) (v := 0) hx hb dX1_isLooked_82 (by decide) ?_
    exact hr_iret hx hb hr rfl hlocks (Option.some.inj hd) rfl hW hS dX1_isLooked_83 (Nat.le_of_ble_eq_true rfl) (Nat.le_of_ble_eq_true rfl)
  have hI10 : ∀ (k9 : Nat) (v1 : Int32), wt_wh (bX1_isLooked_1 τ o_ a0 a1 a2) k9 v1 = some w2 → ∀ (H : Heap) (locs : List Loc) (ls : Array Slot), Hw G A τ H → va_S A s_.heap H locs → lv_has ls 6 [(0, .ref o_), (1, .int a0), (2, .int a1), (3, .int a2), (4, .int v1)] → W p_ l e_ (headSpec (ws_ yX1_isLooked cX1_isLooked 6 (some .boolean)) ({ frames := 3, cells := 0, slots := 0, locals := 64 })).room s_ m_ ([.ref o_, .int a0, .int a1, .int a2] : List Value).toArray below_ meth_ c_ H locs 0 0 (MQ below_ (hQi G out_ τ A) ([.ref o_, .int a0, .int a1, .int a2] : List Value).toArray s_ 0 0 A) (F0 m_ 3 ls []) := by
    intro k9
    induction k9 with
    | zero => intro v1 hd; exact absurd hd wt_wh_z
    | succ k9 ih7 =>
      intro v1 hd
      intro H locs ls hW hS hl
      obtain ⟨r8, hd, hk6⟩ := wt_wh_o hd
      unfold bX1_isLooked_1 at hd
      refine lv_iload (pc := 3) hx hb dX1_isLooked_3 (lv_at hl 4 rfl) ?_
      refine lv_aload_n (pc := 5) hx hb dX1_isLooked_5 rfl (lv_at hl 0 rfl) ?_
      obtain ⟨ad11, h12, hd⟩ := wt_bd_o hd
      refine hr_get (pc := 6) hx hb hts hown hK hW (hgA_o h12) hf_0_1 (fun _ h => h) q536 dX1_isLooked_6 ?_
      obtain ⟨ad13, h14, hd⟩ := wt_bd_o hd
      refine hr_getN (pc := 9) hx hb hts hown hK hT hW (hgA_o h14) hf_2_0 (fun _ h => h) q515 dX1_isLooked_9 ?_
      obtain ⟨h15, hd⟩ := wt_ck_o hd
      obtain ⟨w16, hc17, hd⟩ := wt_bd_o hd
      refine kJ2_size (pc := 12) hx hb hml hown hts hC hW hS h15 hc17 hl.1 (Nat.le_of_ble_eq_true rfl) ⟨Nat.le_of_ble_eq_true rfl, Nat.le_of_ble_eq_true rfl⟩ ⟨Nat.le_of_ble_eq_true rfl, Nat.le_of_ble_eq_true rfl⟩ q666 dX1_isLooked_12 (fun H locs hW hS => ?_)
      refine lv_icmp_ge (pc := 15) (tgt := 82) hx hb dX1_isLooked_15 (by decide) (fun c18 => ?_) (fun c18 => ?_)
      · have hd := wt_it hd c18
        exact hX5 () (wt_exit hd hk6) _ _ _ hW hS (lv_sub hl [] rfl)
      · have hd := wt_if hd c18
        refine lv_aload_n (pc := 18) hx hb dX1_isLooked_18 rfl (lv_at hl 0 rfl) ?_
        obtain ⟨ad19, h20, hd⟩ := wt_bd_o hd
        refine hr_get (pc := 19) hx hb hts hown hK hW (hgA_o h20) hf_0_1 (fun _ h => h) q536 dX1_isLooked_19 ?_
        obtain ⟨ad21, h22, hd⟩ := wt_bd_o hd
        refine hr_getN (pc := 22) hx hb hts hown hK hT hW (hgA_o h22) hf_2_0 (fun _ h => h) q515 dX1_isLooked_22 ?_
        refine lv_iload (pc := 25) hx hb dX1_isLooked_25 (lv_at hl 4 rfl) ?_
        obtain ⟨h23, hd⟩ := wt_ck_o hd
        obtain ⟨w24, hc25, hd⟩ := wt_bd_o hd
        refine kJ2_get (pc := 27) hx hb hml hown hts hC hW hS h23 hc25 hl.1 (Nat.le_of_ble_eq_true rfl) ⟨Nat.le_of_ble_eq_true rfl, Nat.le_of_ble_eq_true rfl⟩ ⟨Nat.le_of_ble_eq_true rfl, Nat.le_of_ble_eq_true rfl⟩ q1024 dX1_isLooked_27 (fun H locs hW hS => ?_)
        obtain ⟨h26, hd⟩ := wt_ck_o hd
        refine hr_cast (pc := 30) (ci := 10) hx hb hts hown hK hW h26 rfl rfl q1162 dX1_isLooked_30 ?_
        refine lv_astore (pc := 33) (lv' := [(5, .ref w24), (0, .ref o_), (1, .int a0), (2, .int a1), (3, .int a2), (4, .int v1)]) hx hb dX1_isLooked_33 hl (by decide) rfl (fun ls hl => ?_)
        refine lv_aload (pc := 35) hx hb dX1_isLooked_35 (lv_at hl 0 rfl) ?_
        obtain ⟨f27, h28, hd⟩ := wt_bd_o hd
        refine hr_getN (pc := 37) hx hb hts hown hK hT hW (hgI_o h28) hf_10_0 (fun _ h => h) q1170 dX1_isLooked_37 ?_
        refine lv_iload_n (pc := 40) hx hb dX1_isLooked_40 rfl (lv_at hl 2 rfl) ?_
        refine lv_icmp_ne (pc := 41) (tgt := 76) hx hb dX1_isLooked_41 (by decide) (fun c29 => ?_) (fun c29 => ?_)
        · have hd := wt_if hd c29
          obtain ⟨n30, en30, hd⟩ := wt_lt_o hd
          refine lv_iinc (pc := 76) (k := 5) (v := n30) (lv' := [(4, .int n30), (5, .ref w24), (0, .ref o_), (1, .int a0), (2, .int a1), (3, .int a2)]) hx hb dX1_isLooked_76 hl rfl en30.symm (by decide) rfl (fun ls hl => ?_)
          refine lv_goto (pc := 79) (tgt := 3) hx hb dX1_isLooked_79 (by decide) ?_
          exact ih7 _ (wt_again hd hk6) _ _ _ hW hS (lv_sub hl [2, 3, 4, 5, 0] rfl)
        · have hd := wt_it hd c29
          refine lv_aload (pc := 44) hx hb dX1_isLooked_44 (lv_at hl 0 rfl) ?_
          obtain ⟨f31, h32, hd⟩ := wt_bd_o hd
          refine hr_getN (pc := 46) hx hb hts hown hK hT hW (hgI_o h32) hf_10_1 (fun _ h => h) q1173 dX1_isLooked_46 ?_
          refine lv_iload_n (pc := 49) hx hb dX1_isLooked_49 rfl (lv_at hl 4 rfl) ?_
          refine lv_icmp_ne (pc := 50) (tgt := 76) hx hb dX1_isLooked_50 (by decide) (fun c33 => ?_) (fun c33 => ?_)
          · have hd := wt_if hd c33
            obtain ⟨n34, en34, hd⟩ := wt_lt_o hd
            refine lv_iinc (pc := 76) (k := 5) (v := n34) (lv' := [(4, .int n34), (5, .ref w24), (0, .ref o_), (1, .int a0), (2, .int a1), (3, .int a2)]) hx hb dX1_isLooked_76 hl rfl en34.symm (by decide) rfl (fun ls hl => ?_)
            refine lv_goto (pc := 79) (tgt := 3) hx hb dX1_isLooked_79 (by decide) ?_
            exact ih7 _ (wt_again hd hk6) _ _ _ hW hS (lv_sub hl [2, 3, 4, 5, 0] rfl)
          · have hd := wt_it hd c33
            refine lv_aload_n (pc := 53) hx hb dX1_isLooked_53 rfl (lv_at hl 1 rfl) ?_
            obtain ⟨ad35, h36, hd⟩ := wt_bd_o hd
            refine hr_get (pc := 54) hx hb hts hown hK hW (hgA_o h36) hf_0_0 (fun _ h => h) q534 dX1_isLooked_54 ?_
            obtain ⟨ad37, h38, hd⟩ := wt_bd_o hd
            refine hr_getN (pc := 57) hx hb hts hown hK hT hW (hgA_o h38) hf_1_3 (fun _ h => h) q132 dX1_isLooked_57 ?_
            refine lv_iload_n (pc := 60) hx hb dX1_isLooked_60 rfl (lv_at hl 3 rfl) ?_
            obtain ⟨z39, h40, hd⟩ := wt_bd_o hd
            obtain ⟨h41, hd⟩ := wt_ck_o hd
            refine hr_iald (pc := 61) hx hb hK hW h40 h41 dX1_isLooked_61 ?_
            refine lv_aload (pc := 62) hx hb dX1_isLooked_62 (lv_at hl 0 rfl) ?_
            obtain ⟨f42, h43, hd⟩ := wt_bd_o hd
            refine hr_getN (pc := 64) hx hb hts hown hK hT hW (hgI_o h43) hf_10_2 (fun _ h => h) q1176 dX1_isLooked_64 ?_
            refine lv_ishr (pc := 67) hx hb dX1_isLooked_67 ?_
            refine lv_iconst (pc := 68) (v := 1) hx hb dX1_isLooked_68 (by decide) ?_
            refine lv_iand (pc := 69) hx hb dX1_isLooked_69 ?_
            refine lv_iconst (pc := 70) (v := 1) hx hb dX1_isLooked_70 (by decide) ?_
            refine lv_icmp_ne (pc := 71) (tgt := 76) hx hb dX1_isLooked_71 (by decide) (fun c44 => ?_) (fun c44 => ?_)
            · have hd := wt_if hd c44
              obtain ⟨n45, en45, hd⟩ := wt_lt_o hd
              refine lv_iinc (pc := 76) (k := 5) (v := n45) (lv' := [(4, .int n45), (5, .ref w24), (0, .ref o_), (1, .int a0), (2, .int a1), (3, .int a2)]) hx hb dX1_isLooked_76 hl rfl en45.symm (by decide) rfl (fun ls hl => ?_)
              refine lv_goto (pc := 79) (tgt := 3) hx hb dX1_isLooked_79 (by decide) ?_
              exact ih7 _ (wt_again hd hk6) _ _ _ hW hS (lv_sub hl [2, 3, 4, 5, 0] rfl)
            · have hd := wt_it hd c44
              refine lv_iconst (pc := 74) (v := 1) hx hb dX1_isLooked_74 (by decide) ?_
              have hd := wt_rs_r (wt_exit hd hk6) hq4
              exact hr_iret hx hb hr rfl hlocks (Option.some.inj hd) rfl hW hS dX1_isLooked_75 (Nat.le_of_ble_eq_true rfl) (Nat.le_of_ble_eq_true rfl)
  obtain ⟨k9, hL3⟩ := wt_whC_o hL3
  exact hI10 k9 _ hL3 _ _ _ hW hS (lv_sub hl [1, 2, 3, 4, 0] rfl)
theorem kX1_isLooked {p : Program} {l : Launch} {e : Env} {R : Room} {s : State} {m : MethodId} {args : Array Value} {below : List Frame} {meth : Method} {c : Code} {H : Heap} {locs : List Loc} {cells slots : Nat} {Q : State → Prop} {cc : ByteArray} {pc : Nat} {ls : Array Slot} {rest : List Value} {nL : Nat} {own : String} {index : Nat} {G : HG} {A : Nat → Prop} {τ : HP} {o_ : Nat} {a0 : Int32} {a1 : Int32} {a2 : Int32} {out_ : Int32} (hx : p.tables.exec = Jvm.exec) (hb : c.code = cc) (hml : c.maxLocals = nL) (hown : s.vm.findClass own = some m.cls) (hts : ∀ w ∈ lw_all, w.before args s = true) (hC : Hcx G A s) (hW : Hw G A τ H) (hS : va_S A s.heap H locs) (hrc : hcl τ o_ = some 0) (hd : eX1_isLooked τ o_ a0 a1 a2 = some out_) (hsz : ls.size = nL) (hrm : (rest.map fun v => v.category).sum ≤ 8) (hR : 4 ≤ R.frames ∧ 89 ≤ R.locals) (hcs : cells ≤ R.cells ∧ slots ≤ R.slots) (hlk : Cond.methodLink own index yX1_isLooked ∈ lw_all) (hdg : decode cc pc = .ok (.invokevirtual index, 3)) (kk : ∀ (H1 : Heap) (locs1 : List Loc), Hw G A τ H1 → va_S A s.heap H1 locs1 → W p l e R s m args below meth c H1 locs1 cells slots Q (F0 m (pc + 3) ls (.int out_ :: rest))) : W p l e R s m args below meth c H locs cells slots Q (F0 m pc ls (.int a2 :: .int a1 :: .int a0 :: .ref o_ :: rest)) := by
  refine va_calli (va_runV (As := [.int a0, .int a1, .int a2]) (rest := rest) ⟨hx, hb, hml, hown, hts⟩ (wX1_isLooked l hd) (cwV 3 hts (lw_V hlk q1498 qs23 q66 q1499) rfl rfl rfl (by decide +kernel) hR) (hr_preV hC hW hS hrc rfl rfl) rfl rfl hsz rfl (lv_room hrm) hdg hcs) hS (fun _ _ h => h) (fun _ h => h) (fun r u t H1 locs1 ht hvm hp hB hz hk hS1 => ?_)
  have hp : r = out_ := hp
  subst hp
  have hW1 : Hw G A τ t.heap := hB
  rw [ht] at hW1
  exact kk H1 locs1 hW1 hS1
noncomputable def bX1_next_2 (o_ : Nat) (a2 : Int32) (w15 : Nat × HP) (w18 : Nat × HP) (v20 : Int32 × Int32 × Int32) (v31 : Int32 × Int32 × Int32) : Option ((Int32 × Int32 × Int32) ⊕ (Int32 × Int32)) :=
  if (10 : Int32) ≤ v31.2.2 then (some (.inr (v31.1, v31.2.1))) else (wt_ck (hcl w18.2 w15.1 = some 9) <| wt_bd (eX12_pile w18.2 w15.1 v20.2.2 v31.2.2) fun w43 => wt_ck (hcl w18.2 w18.1 = some 9) <| wt_bd (eX12_pile w18.2 w18.1 v20.2.2 v31.2.2) fun w46 => wt_lt ((wt_abs (w43 - w46))) fun n48 => if n48 ≤ v31.2.1 then (wt_lt (v31.2.2 + (1 : Int32)) fun n50 => some (.inl (v31.1, v31.2.1, n50))) else (wt_ck (hcl w18.2 o_ = some 0) <| wt_bd (eX1_isLooked w18.2 o_ v20.2.2 v31.2.2 a2) fun w52 => if w52 = 0 then (wt_lt (((((100 : Int32) * n48) + ((10 : Int32) * v20.2.2)) + v31.2.2)) fun n55 => wt_lt (v31.2.2 + (1 : Int32)) fun n56 => some (.inl (n55, n48, n56))) else (wt_lt (v31.2.2 + (1 : Int32)) fun n57 => some (.inl (v31.1, v31.2.1, n57)))))
noncomputable def bX1_next_1 (o_ : Nat) (a2 : Int32) (w15 : Nat × HP) (w18 : Nat × HP) (v20 : Int32 × Int32 × Int32) : Option ((Int32 × Int32 × Int32) ⊕ (Int32)) :=
  if (10 : Int32) ≤ v20.2.2 then (some (.inr v20.1)) else (wt_bd (wt_whC (bX1_next_2 o_ a2 w15 w18 v20) (v20.1, v20.2.1, (0 : Int32))) fun w32 => wt_lt (v20.2.2 + (1 : Int32)) fun n58 => some (.inl (w32.1, w32.2, n58)))
noncomputable def eX1_next (τ : HP) (o_ : Nat) (a0 : Int32) (a1 : Int32) (a2 : Int32) : Option ((Int32 × HP) ⊕ (Nat × Nat × HP)) :=
  wt_ck (hcl τ o_ = some 0) <| wt_bd (eX1_run τ o_ a0) fun w2 => wt_rs w2 (fun o4 => wt_ck (hcl o4.2 o_ = some 0) <| wt_bd (eX1_run o4.2 o_ a1) fun w6 => wt_rs w6 (fun o8 => wt_bd (eX1_isHour a2) fun w9 => wt_bd (eX1_need o8.2 w9) fun w11 => wt_rs w11 (fun o13 => wt_ck (hcl o8.2 o4.1 = some 8) <| wt_bd (eX11_at o8.2 o4.1 a2) fun w15 => wt_ck (hcl w15.2 o8.1 = some 8) <| wt_bd (eX11_at w15.2 o8.1 a2) fun w18 => wt_bd (wt_whC (bX1_next_1 o_ a2 w15 w18) ((-1 : Int32), (0 : Int32), (0 : Int32))) fun w21 => some (.inl (w21, w18.2))) (fun x_ => some (.inr x_))) (fun x_ => some (.inr x_))) (fun x_ => some (.inr x_))
set_option maxHeartbeats 4000000 in
theorem wX1_next (l : Launch) (hfl : l.stackTraces = false) {G : HG} {A : Nat → Prop} {τ : HP} {o_ : Nat} {a0 : Int32} {a1 : Int32} {a2 : Int32} {out_ : (Int32 × HP) ⊕ (Nat × Nat × HP)} (hd : eX1_next τ o_ a0 a1 a2 = some out_) : vx_Met l yX1_next (ws_ yX1_next cX1_next 13 (some .int)) ({ frames := 7, cells := 9, slots := 246, locals := 132 }) (hPc G A τ [.ref o_, .int a0, .int a1, .int a2]) (hXi G A (fun r u => Sum.inl (r, u) = out_)) (hXX G A out_) 9 246 A := by
  refine vx_ofW (cc := cX1_next) (maxL := 13) (ret := (some .int)) (by decide) rfl ?_
  intro p_ e_ s_ m_ args_ below_ meth_ c_ s₁_ B hml hno hv
  obtain ⟨rfl, hW, hC⟩ := hv
  have hx := B.exec
  have hb := B.bytes
  have hr := B.returns
  have hts := atoms_spec (ws := (ws_ yX1_next cX1_next 13 (some .int))) B.pre
  have hts : ∀ w ∈ lw_all, w.before _ s_ = true := fun w h => hts w (List.mem_cons_of_mem _ h)
  have hown : s_.vm.findClass RX1 = some m_.cls := findClass_of_methodNamed B.named
  have hlocks := B.notSynchronized
  have hK := hC.1
  have hT := hC.2.1
  have hL := hC.2.2.1
  have hZ := hC.2.2.2.2.1
  have hA := hC.2.2.2.2.2
  have hS : va_S A s_.heap s_.heap [] := va_S.rf
  have hl := lv_entry ([.ref o_, .int a0, .int a1, .int a2]) (n := 13) (Nat.le_of_ble_eq_true rfl)
  rw [lg_entry_eq]
  generalize (lg_sl ([.ref o_, .int a0, .int a1, .int a2]) ++ List.replicate (13 - (lg_sl ([.ref o_, .int a0, .int a1, .int a2])).length) Slot.unset).toArray = ls at hl ⊢
  have hl : lv_has ls 13 [(0, .ref o_), (1, .int a0), (2, .int a1), (3, .int a2)] := hl
  unfold eX1_next at hd
  refine lv_aload_n (pc := 0) hx hb dX1_next_0 rfl (lv_at hl 0 rfl) ?_
  refine lv_iload_n (pc := 1) hx hb dX1_next_1 rfl (lv_at hl 1 rfl) ?_
  obtain ⟨h1, hd⟩ := wt_ck_o hd
  obtain ⟨w2, hc3, hd⟩ := wt_bd_o hd
  refine kX1_run (pc := 2) hfl hx hb hml hown hts hC hW hS h1 hc3 hl.1 (Nat.le_of_ble_eq_true rfl) ⟨Nat.le_of_ble_eq_true rfl, Nat.le_of_ble_eq_true rfl⟩ ⟨(Nat.le_of_ble_eq_true rfl), (Nat.le_of_ble_eq_true rfl)⟩ q1003 dX1_next_2 (fun x_ hx_ E_ ce_ q9_ H locs hXB hS hce hvn hfc => ?_) (fun o4 ho_ H locs hW hS => ?_)
  · have hd := wt_rs_r hx_ hd
    exact hx_out (fun z hz => (hno z hz).elim) hlocks hce hvn hfc (Option.some.inj hd) hXB hS (Nat.le_of_ble_eq_true rfl) (Nat.le_of_ble_eq_true rfl)
  · have hd := wt_rs_l ho_ hd
    refine lv_astore (pc := 5) (lv' := [(4, .ref o4.1), (0, .ref o_), (1, .int a0), (2, .int a1), (3, .int a2)]) hx hb dX1_next_5 hl (by decide) rfl (fun ls hl => ?_)
    refine lv_aload_n (pc := 7) hx hb dX1_next_7 rfl (lv_at hl 1 rfl) ?_
    refine lv_iload_n (pc := 8) hx hb dX1_next_8 rfl (lv_at hl 3 rfl) ?_
    obtain ⟨h5, hd⟩ := wt_ck_o hd
    obtain ⟨w6, hc7, hd⟩ := wt_bd_o hd
    refine kX1_run (pc := 9) hfl hx hb hml hown hts hC hW hS h5 hc7 hl.1 (Nat.le_of_ble_eq_true rfl) ⟨Nat.le_of_ble_eq_true rfl, Nat.le_of_ble_eq_true rfl⟩ ⟨(Nat.le_of_ble_eq_true rfl), (Nat.le_of_ble_eq_true rfl)⟩ q1003 dX1_next_9 (fun x_ hx_ E_ ce_ q9_ H locs hXB hS hce hvn hfc => ?_) (fun o8 ho_ H locs hW hS => ?_)
    · have hd := wt_rs_r hx_ hd
      exact hx_out (fun z hz => (hno z hz).elim) hlocks hce hvn hfc (Option.some.inj hd) hXB hS (Nat.le_of_ble_eq_true rfl) (Nat.le_of_ble_eq_true rfl)
    · have hd := wt_rs_l ho_ hd
      refine lv_astore (pc := 12) (lv' := [(5, .ref o8.1), (4, .ref o4.1), (0, .ref o_), (1, .int a0), (2, .int a1), (3, .int a2)]) hx hb dX1_next_12 hl (by decide) rfl (fun ls hl => ?_)
      refine lv_iload_n (pc := 14) hx hb dX1_next_14 rfl (lv_at hl 5 rfl) ?_
      obtain ⟨w9, hc10, hd⟩ := wt_bd_o hd
      refine kX1_isHour (pc := 15) hx hb hml hown hts hC hW hS hc10 hl.1 (Nat.le_of_ble_eq_true rfl) ⟨Nat.le_of_ble_eq_true rfl, Nat.le_of_ble_eq_true rfl⟩ ⟨Nat.le_of_ble_eq_true rfl, Nat.le_of_ble_eq_true rfl⟩ q1060 dX1_next_15 (fun H locs hW hS => ?_)
      obtain ⟨w11, hc12, hd⟩ := wt_bd_o hd
      refine kX1_need (pc := 18) hfl hx hb hml hown hts hC hW hS hc12 hl.1 (Nat.le_of_ble_eq_true rfl) ⟨Nat.le_of_ble_eq_true rfl, Nat.le_of_ble_eq_true rfl⟩ ⟨(Nat.le_of_ble_eq_true rfl), (Nat.le_of_ble_eq_true rfl)⟩ q676 dX1_next_18 (fun x_ hx_ E_ ce_ q9_ H locs hXB hS hce hvn hfc => ?_) (fun o13 ho_ H locs hW hS => ?_)
      · have hd := wt_rs_r hx_ hd
        exact hx_out (fun z hz => (hno z hz).elim) hlocks hce hvn hfc (Option.some.inj hd) hXB hS (Nat.le_of_ble_eq_true rfl) (Nat.le_of_ble_eq_true rfl)
      · have hd := wt_rs_l ho_ hd
        refine lv_aload (pc := 21) hx hb dX1_next_21 (lv_at hl 1 rfl) ?_
        refine lv_iload_n (pc := 23) hx hb dX1_next_23 rfl (lv_at hl 5 rfl) ?_
        obtain ⟨h14, hd⟩ := wt_ck_o hd
        obtain ⟨w15, hc16, hd⟩ := wt_bd_o hd
        refine kX11_at (pc := 24) hx hb hml hown hts hC hW hS h14 hc16 hl.1 (Nat.le_of_ble_eq_true rfl) ⟨Nat.le_of_ble_eq_true rfl, Nat.le_of_ble_eq_true rfl⟩ ⟨(Nat.le_of_ble_eq_true rfl), (Nat.le_of_ble_eq_true rfl)⟩ q1063 dX1_next_24 (fun H locs hW hS => ?_)
        refine lv_astore (pc := 27) (lv' := [(6, .ref w15.1), (5, .ref o8.1), (4, .ref o4.1), (0, .ref o_), (1, .int a0), (2, .int a1), (3, .int a2)]) hx hb dX1_next_27 hl (by decide) rfl (fun ls hl => ?_)
        refine lv_aload (pc := 29) hx hb dX1_next_29 (lv_at hl 1 rfl) ?_
        refine lv_iload_n (pc := 31) hx hb dX1_next_31 rfl (lv_at hl 6 rfl) ?_
        obtain ⟨h17, hd⟩ := wt_ck_o hd
        obtain ⟨w18, hc19, hd⟩ := wt_bd_o hd
        refine kX11_at (pc := 32) hx hb hml hown hts hC hW hS h17 hc19 hl.1 (Nat.le_of_ble_eq_true rfl) ⟨Nat.le_of_ble_eq_true rfl, Nat.le_of_ble_eq_true rfl⟩ ⟨(Nat.le_of_ble_eq_true rfl), (Nat.le_of_ble_eq_true rfl)⟩ q1063 dX1_next_32 (fun H locs hW hS => ?_)
        refine lv_astore (pc := 35) (lv' := [(7, .ref w18.1), (6, .ref w15.1), (5, .ref o8.1), (4, .ref o4.1), (0, .ref o_), (1, .int a0), (2, .int a1), (3, .int a2)]) hx hb dX1_next_35 hl (by decide) rfl (fun ls hl => ?_)
        refine lv_iconst (pc := 37) (v := -1) hx hb dX1_next_37 (by decide) ?_
        refine lv_istore (pc := 38) (lv' := [(8, .int (-1 : Int32)), (7, .ref w18.1), (6, .ref w15.1), (5, .ref o8.1), (4, .ref o4.1), (0, .ref o_), (1, .int a0), (2, .int a1), (3, .int a2)]) hx hb dX1_next_38 hl (by decide) rfl (fun ls hl => ?_)
        refine lv_iconst (pc := 40) (v := 0) hx hb dX1_next_40 (by decide) ?_
        refine lv_istore (pc := 41) (lv' := [(9, .int (0 : Int32)), (8, .int (-1 : Int32)), (7, .ref w18.1), (6, .ref w15.1), (5, .ref o8.1), (4, .ref o4.1), (0, .ref o_), (1, .int a0), (2, .int a1), (3, .int a2)]) hx hb dX1_next_41 hl (by decide) rfl (fun ls hl => ?_)
        refine lv_iconst (pc := 43) (v := 0) hx hb dX1_next_43 (by decide) ?_
        refine lv_istore (pc := 44) (lv' := [(10, .int (0 : Int32)), (9, .int (0 : Int32)), (8, .int (-1 : Int32)), (7, .ref w18.1), (6, .ref w15.1), (5, .ref o8.1), (4, .ref o4.1), (0, .ref o_), (1, .int a0), (2, .int a1), (3, .int a2)]) hx hb dX1_next_44 hl (by decide) rfl (fun ls hl => ?_)
        obtain ⟨w21, hL22, hq23⟩ := wt_bd_o hd
        have hX24 : ∀ w21_ : Int32, w21_ = w21 → ∀ (H : Heap) (locs : List Loc) (ls : Array Slot), Hw G A w18.2 H → va_S A s_.heap H locs → lv_has ls 13 [(8, .int w21_)] → W p_ l e_ (headSpec (ws_ yX1_next cX1_next 13 (some .int)) ({ frames := 7, cells := 9, slots := 246, locals := 132 })).room s_ m_ ([.ref o_, .int a0, .int a1, .int a2] : List Value).toArray below_ meth_ c_ H locs 9 246 (vx_MQ below_ (hXi G A (fun r u => Sum.inl (r, u) = out_)) (hXX G A out_) ([.ref o_, .int a0, .int a1, .int a2] : List Value).toArray s_ 9 246 A) (F0 m_ 141 ls []) := by
          intro w21_ hw_
          have hd := hq23
          subst hw_
          clear hL22 hq23
          intro H locs ls hW hS hl
          refine lv_iload (pc := 141) hx hb dX1_next_141 (lv_at hl 0 rfl) ?_
          refine vx_ret ?_
          exact hx_iret hx hb hr rfl hlocks (Option.some.inj hd) hW hS dX1_next_143 (Nat.le_of_ble_eq_true rfl) (Nat.le_of_ble_eq_true rfl)
        have hI29 : ∀ (k28 : Nat) (v20 : Int32 × Int32 × Int32), wt_wh (bX1_next_1 o_ a2 w15 w18) k28 v20 = some w21 → ∀ (H : Heap) (locs : List Loc) (ls : Array Slot), Hw G A w18.2 H → va_S A s_.heap H locs → lv_has ls 13 [(0, .ref o_), (3, .int a2), (6, .ref w15.1), (7, .ref w18.1), (8, .int v20.1), (9, .int v20.2.1), (10, .int v20.2.2)] → W p_ l e_ (headSpec (ws_ yX1_next cX1_next 13 (some .int)) ({ frames := 7, cells := 9, slots := 246, locals := 132 })).room s_ m_ ([.ref o_, .int a0, .int a1, .int a2] : List Value).toArray below_ meth_ c_ H locs 9 246 (vx_MQ below_ (hXi G A (fun r u => Sum.inl (r, u) = out_)) (hXX G A out_) ([.ref o_, .int a0, .int a1, .int a2] : List Value).toArray s_ 9 246 A) (F0 m_ 46 ls []) := by
          intro k28
          induction k28 with
          | zero => intro v20 hd; exact absurd hd wt_wh_z
          | succ k28 ih26 =>
            intro v20 hd
            intro H locs ls hW hS hl
            obtain ⟨r27, hd, hk25⟩ := wt_wh_o hd
            unfold bX1_next_1 at hd
            refine lv_iload (pc := 46) hx hb dX1_next_46 (lv_at hl 6 rfl) ?_
            refine lv_bipush (pc := 48) (v := 10) hx hb dX1_next_48 (by decide) ?_
            refine lv_icmp_ge (pc := 50) (tgt := 141) hx hb dX1_next_50 (by decide) (fun c30 => ?_) (fun c30 => ?_)
            · have hd := wt_it hd c30
              exact hX24 v20.1 (wt_exit hd hk25) _ _ _ hW hS (lv_sub hl [4] rfl)
            · have hd := wt_if hd c30
              refine lv_iconst (pc := 53) (v := 0) hx hb dX1_next_53 (by decide) ?_
              refine lv_istore (pc := 54) (lv' := [(11, .int (0 : Int32)), (0, .ref o_), (3, .int a2), (6, .ref w15.1), (7, .ref w18.1), (8, .int v20.1), (9, .int v20.2.1), (10, .int v20.2.2)]) hx hb dX1_next_54 hl (by decide) rfl (fun ls hl => ?_)
              obtain ⟨w32, hL33, hq34⟩ := wt_bd_o hd
              have hX35 : ∀ w32_ : Int32 × Int32, w32_ = w32 → ∀ (H : Heap) (locs : List Loc) (ls : Array Slot), Hw G A w18.2 H → va_S A s_.heap H locs → lv_has ls 13 [(0, .ref o_), (3, .int a2), (6, .ref w15.1), (7, .ref w18.1), (8, .int w32_.1), (9, .int w32_.2), (10, .int v20.2.2)] → W p_ l e_ (headSpec (ws_ yX1_next cX1_next 13 (some .int)) ({ frames := 7, cells := 9, slots := 246, locals := 132 })).room s_ m_ ([.ref o_, .int a0, .int a1, .int a2] : List Value).toArray below_ meth_ c_ H locs 9 246 (vx_MQ below_ (hXi G A (fun r u => Sum.inl (r, u) = out_)) (hXX G A out_) ([.ref o_, .int a0, .int a1, .int a2] : List Value).toArray s_ 9 246 A) (F0 m_ 135 ls []) := by
                intro w32_ hw_
                have hd := hq34
                subst hw_
                clear hL33 hq34
                intro H locs ls hW hS hl
                obtain ⟨n58, en58, hd⟩ := wt_lt_o hd
                refine lv_iinc (pc := 135) (k := 6) (v := n58) (lv' := [(10, .int n58), (0, .ref o_), (3, .int a2), (6, .ref w15.1), (7, .ref w18.1), (8, .int w32_.1), (9, .int w32_.2)]) hx hb dX1_next_135 hl rfl en58.symm (by decide) rfl (fun ls hl => ?_)
                refine lv_goto (pc := 138) (tgt := 46) hx hb dX1_next_138 (by decide) ?_
                exact ih26 _ (wt_again hd hk25) _ _ _ hW hS (lv_sub hl [1, 2, 3, 4, 5, 6, 0] rfl)
              have hI40 : ∀ (k39 : Nat) (v31 : Int32 × Int32 × Int32), wt_wh (bX1_next_2 o_ a2 w15 w18 v20) k39 v31 = some w32 → ∀ (H : Heap) (locs : List Loc) (ls : Array Slot), Hw G A w18.2 H → va_S A s_.heap H locs → lv_has ls 13 [(0, .ref o_), (3, .int a2), (6, .ref w15.1), (7, .ref w18.1), (8, .int v31.1), (9, .int v31.2.1), (10, .int v20.2.2), (11, .int v31.2.2)] → W p_ l e_ (headSpec (ws_ yX1_next cX1_next 13 (some .int)) ({ frames := 7, cells := 9, slots := 246, locals := 132 })).room s_ m_ ([.ref o_, .int a0, .int a1, .int a2] : List Value).toArray below_ meth_ c_ H locs 9 246 (vx_MQ below_ (hXi G A (fun r u => Sum.inl (r, u) = out_)) (hXX G A out_) ([.ref o_, .int a0, .int a1, .int a2] : List Value).toArray s_ 9 246 A) (F0 m_ 56 ls []) := by
                intro k39
                induction k39 with
                | zero => intro v31 hd; exact absurd hd wt_wh_z
                | succ k39 ih37 =>
                  intro v31 hd
                  intro H locs ls hW hS hl
                  obtain ⟨r38, hd, hk36⟩ := wt_wh_o hd
                  unfold bX1_next_2 at hd
                  refine lv_iload (pc := 56) hx hb dX1_next_56 (lv_at hl 7 rfl) ?_
                  refine lv_bipush (pc := 58) (v := 10) hx hb dX1_next_58 (by decide) ?_
                  refine lv_icmp_ge (pc := 60) (tgt := 135) hx hb dX1_next_60 (by decide) (fun c41 => ?_) (fun c41 => ?_)
                  · have hd := wt_it hd c41
                    exact hX35 (v31.1, v31.2.1) (wt_exit hd hk36) _ _ _ hW hS (lv_sub hl [0, 1, 2, 3, 4, 5, 6] rfl)
                  · have hd := wt_if hd c41
                    refine lv_aload (pc := 63) hx hb dX1_next_63 (lv_at hl 2 rfl) ?_
                    refine lv_iload (pc := 65) hx hb dX1_next_65 (lv_at hl 6 rfl) ?_
                    refine lv_iload (pc := 67) hx hb dX1_next_67 (lv_at hl 7 rfl) ?_
                    obtain ⟨h42, hd⟩ := wt_ck_o hd
                    obtain ⟨w43, hc44, hd⟩ := wt_bd_o hd
                    refine kX12_pile (pc := 69) hx hb hml hown hts hC hW hS h42 hc44 hl.1 (Nat.le_of_ble_eq_true rfl) ⟨Nat.le_of_ble_eq_true rfl, Nat.le_of_ble_eq_true rfl⟩ ⟨Nat.le_of_ble_eq_true rfl, Nat.le_of_ble_eq_true rfl⟩ q1144 dX1_next_69 (fun H locs hW hS => ?_)
                    refine lv_aload (pc := 72) hx hb dX1_next_72 (lv_at hl 3 rfl) ?_
                    refine lv_iload (pc := 74) hx hb dX1_next_74 (lv_at hl 6 rfl) ?_
                    refine lv_iload (pc := 76) hx hb dX1_next_76 (lv_at hl 7 rfl) ?_
                    obtain ⟨h45, hd⟩ := wt_ck_o hd
                    obtain ⟨w46, hc47, hd⟩ := wt_bd_o hd
                    refine kX12_pile (pc := 78) hx hb hml hown hts hC hW hS h45 hc47 hl.1 (Nat.le_of_ble_eq_true rfl) ⟨Nat.le_of_ble_eq_true rfl, Nat.le_of_ble_eq_true rfl⟩ ⟨Nat.le_of_ble_eq_true rfl, Nat.le_of_ble_eq_true rfl⟩ q1144 dX1_next_78 (fun H locs hW hS => ?_)
                    refine lv_isub (pc := 81) hx hb dX1_next_81 ?_
                    refine va_mabs (pc := 82) hx hb (hml.trans hl.1.symm) hown (hts _ q1493) (hts _ q1494) (hts _ q81) (hts _ q1495) (Nat.le_of_ble_eq_true rfl) (Nat.le_of_ble_eq_true rfl) (Nat.le_of_ble_eq_true rfl) (Nat.le_of_ble_eq_true rfl) dX1_next_82 ?_
                    obtain ⟨n48, en48, hd⟩ := wt_lt_o hd
                    refine lv_tope en48 ?_
                    refine lv_istore (pc := 85) (lv' := [(12, .int n48), (0, .ref o_), (3, .int a2), (6, .ref w15.1), (7, .ref w18.1), (8, .int v31.1), (9, .int v31.2.1), (10, .int v20.2.2), (11, .int v31.2.2)]) hx hb dX1_next_85 hl (by decide) rfl (fun ls hl => ?_)
                    refine lv_iload (pc := 87) hx hb dX1_next_87 (lv_at hl 0 rfl) ?_
                    refine lv_iload (pc := 89) hx hb dX1_next_89 (lv_at hl 6 rfl) ?_
                    refine lv_icmp_le (pc := 91) (tgt := 129) hx hb dX1_next_91 (by decide) (fun c49 => ?_) (fun c49 => ?_)
                    · have hd := wt_it hd c49
                      obtain ⟨n50, en50, hd⟩ := wt_lt_o hd
                      refine lv_iinc (pc := 129) (k := 8) (v := n50) (lv' := [(11, .int n50), (12, .int n48), (0, .ref o_), (3, .int a2), (6, .ref w15.1), (7, .ref w18.1), (8, .int v31.1), (9, .int v31.2.1), (10, .int v20.2.2)]) hx hb dX1_next_129 hl rfl en50.symm (by decide) rfl (fun ls hl => ?_)
                      refine lv_goto (pc := 132) (tgt := 56) hx hb dX1_next_132 (by decide) ?_
                      exact ih37 _ (wt_again hd hk36) _ _ _ hW hS (lv_sub hl [2, 3, 4, 5, 6, 7, 8, 0] rfl)
                    · have hd := wt_if hd c49
                      refine lv_aload_n (pc := 94) hx hb dX1_next_94 rfl (lv_at hl 1 rfl) ?_
                      refine lv_iload (pc := 95) hx hb dX1_next_95 (lv_at hl 7 rfl) ?_
                      refine lv_iload (pc := 97) hx hb dX1_next_97 (lv_at hl 8 rfl) ?_
                      refine lv_iload_n (pc := 99) hx hb dX1_next_99 rfl (lv_at hl 2 rfl) ?_
                      obtain ⟨h51, hd⟩ := wt_ck_o hd
                      obtain ⟨w52, hc53, hd⟩ := wt_bd_o hd
                      refine kX1_isLooked (pc := 100) hx hb hml hown hts hC hW hS h51 hc53 hl.1 (Nat.le_of_ble_eq_true rfl) ⟨Nat.le_of_ble_eq_true rfl, Nat.le_of_ble_eq_true rfl⟩ ⟨Nat.le_of_ble_eq_true rfl, Nat.le_of_ble_eq_true rfl⟩ q1496 dX1_next_100 (fun H locs hW hS => ?_)
                      refine lv_if_eq (pc := 103) (tgt := 109) hx hb dX1_next_103 (by decide) (fun c54 => ?_) (fun c54 => ?_)
                      · have hd := wt_it hd c54
                        refine lv_iload (pc := 109) hx hb dX1_next_109 (lv_at hl 0 rfl) ?_
                        refine lv_istore (pc := 111) (lv' := [(9, .int n48), (12, .int n48), (0, .ref o_), (3, .int a2), (6, .ref w15.1), (7, .ref w18.1), (8, .int v31.1), (10, .int v20.2.2), (11, .int v31.2.2)]) hx hb dX1_next_111 hl (by decide) rfl (fun ls hl => ?_)
                        refine lv_bipush (pc := 113) (v := 100) hx hb dX1_next_113 (by decide) ?_
                        refine lv_iload (pc := 115) hx hb dX1_next_115 (lv_at hl 1 rfl) ?_
                        refine lv_imul (pc := 117) hx hb dX1_next_117 ?_
                        refine lv_bipush (pc := 118) (v := 10) hx hb dX1_next_118 (by decide) ?_
                        refine lv_iload (pc := 120) hx hb dX1_next_120 (lv_at hl 7 rfl) ?_
                        refine lv_imul (pc := 122) hx hb dX1_next_122 ?_
                        refine lv_iadd (pc := 123) hx hb dX1_next_123 ?_
                        refine lv_iload (pc := 124) hx hb dX1_next_124 (lv_at hl 8 rfl) ?_
                        refine lv_iadd (pc := 126) hx hb dX1_next_126 ?_
                        obtain ⟨n55, en55, hd⟩ := wt_lt_o hd
                        refine lv_tope en55 ?_
                        refine lv_istore (pc := 127) (lv' := [(8, .int n55), (9, .int n48), (12, .int n48), (0, .ref o_), (3, .int a2), (6, .ref w15.1), (7, .ref w18.1), (10, .int v20.2.2), (11, .int v31.2.2)]) hx hb dX1_next_127 hl (by decide) rfl (fun ls hl => ?_)
                        obtain ⟨n56, en56, hd⟩ := wt_lt_o hd
                        refine lv_iinc (pc := 129) (k := 8) (v := n56) (lv' := [(11, .int n56), (8, .int n55), (9, .int n48), (12, .int n48), (0, .ref o_), (3, .int a2), (6, .ref w15.1), (7, .ref w18.1), (10, .int v20.2.2)]) hx hb dX1_next_129 hl rfl en56.symm (by decide) rfl (fun ls hl => ?_)
                        refine lv_goto (pc := 132) (tgt := 56) hx hb dX1_next_132 (by decide) ?_
                        exact ih37 _ (wt_again hd hk36) _ _ _ hW hS (lv_sub hl [4, 5, 6, 7, 1, 2, 8, 0] rfl)
                      · have hd := wt_if hd c54
                        refine lv_goto (pc := 106) (tgt := 129) hx hb dX1_next_106 (by decide) ?_
                        obtain ⟨n57, en57, hd⟩ := wt_lt_o hd
                        refine lv_iinc (pc := 129) (k := 8) (v := n57) (lv' := [(11, .int n57), (12, .int n48), (0, .ref o_), (3, .int a2), (6, .ref w15.1), (7, .ref w18.1), (8, .int v31.1), (9, .int v31.2.1), (10, .int v20.2.2)]) hx hb dX1_next_129 hl rfl en57.symm (by decide) rfl (fun ls hl => ?_)
                        refine lv_goto (pc := 132) (tgt := 56) hx hb dX1_next_132 (by decide) ?_
                        exact ih37 _ (wt_again hd hk36) _ _ _ hW hS (lv_sub hl [2, 3, 4, 5, 6, 7, 8, 0] rfl)
              obtain ⟨k39, hL33⟩ := wt_whC_o hL33
              exact hI40 k39 _ hL33 _ _ _ hW hS (lv_sub hl [1, 2, 3, 4, 5, 6, 7, 0] rfl)
        obtain ⟨k28, hL22⟩ := wt_whC_o hL22
        exact hI29 k28 _ hL22 _ _ _ hW hS (lv_sub hl [7, 10, 4, 3, 2, 1, 0] rfl)
theorem kX1_next {p : Program} {l : Launch} {e : Env} {R : Room} {s : State} {m : MethodId} {args : Array Value} {below : List Frame} {meth : Method} {c : Code} {H : Heap} {locs : List Loc} {cells slots : Nat} {Q : State → Prop} {cc : ByteArray} {pc : Nat} {ls : Array Slot} {rest : List Value} {nL : Nat} {own : String} {index : Nat} {G : HG} {A : Nat → Prop} {τ : HP} {o_ : Nat} {a0 : Int32} {a1 : Int32} {a2 : Int32} {out_ : (Int32 × HP) ⊕ (Nat × Nat × HP)} (hfl : l.stackTraces = false) (hx : p.tables.exec = Jvm.exec) (hb : c.code = cc) (hml : c.maxLocals = nL) (hown : s.vm.findClass own = some m.cls) (hts : ∀ w ∈ lw_all, w.before args s = true) (hC : Hcx G A s) (hW : Hw G A τ H) (hS : va_S A s.heap H locs) (hrc : hcl τ o_ = some 0) (hd : eX1_next τ o_ a0 a1 a2 = some out_) (hsz : ls.size = nL) (hrm : (rest.map fun v => v.category).sum ≤ 8) (hR : 8 ≤ R.frames ∧ 164 ≤ R.locals) (hcs : (cells + 9) ≤ R.cells ∧ (slots + 246) ≤ R.slots) (hlk : Cond.methodLink own index yX1_next ∈ lw_all) (hdg : decode cc pc = .ok (.invokevirtual index, 3)) (kx : ∀ x_ : Nat × Nat × HP, Sum.inr x_ = out_ → ∀ (E : String) (ce : Cell) (q9 : Addr) (H1 : Heap) (locs1 : List Loc), hXb G A E q9 x_ H1 → va_S A s.heap H1 locs1 → H1[q9]? = some ce → ce.vm = .none → s.vm.findClass E = some ce.cls → vx_W p l e R s m args below meth c H1 locs1 (cells + 9) (slots + 246) Q (F0 m pc ls rest) q9) (kk : ∀ o_1 : Int32 × HP, Sum.inl o_1 = out_ → ∀ (H1 : Heap) (locs1 : List Loc), Hw G A o_1.2 H1 → va_S A s.heap H1 locs1 → W p l e R s m args below meth c H1 locs1 (cells + 9) (slots + 246) Q (F0 m (pc + 3) ls (.int o_1.1 :: rest))) : W p l e R s m args below meth c H locs cells slots Q (F0 m pc ls (.int a2 :: .int a1 :: .int a0 :: .ref o_ :: rest)) := by
  refine vx_calli (vx_runV (As := [.int a0, .int a1, .int a2]) (rest := rest) ⟨hx, hb, hml, hown, hts⟩ (wX1_next l hfl hd) (cwV 3 hts (lw_V hlk q1490 q1491 q66 q1492) rfl rfl rfl (by decide +kernel) hR) (hr_preV hC hW hS hrc rfl rfl) rfl rfl hsz rfl (lv_room hrm) hdg hcs) hS (fun _ _ h => h) (fun _ h => h) (fun _ _ h => h) (fun E ce q9 u t H1 locs1 ht hvm hp hB hz hk hS1 hce hvn hfc => ?_) (fun r u t H1 locs1 ht hvm hp hB hz hk hS1 => ?_)
  · rw [ht] at hB
    exact kx u hp E ce q9 H1 locs1 hB hS1 hce hvn hfc
  · have hW1 : Hw G A u t.heap := hB
    rw [ht] at hW1
    exact kk (r, u) hp H1 locs1 hW1 hS1
noncomputable def bX1_isSign_1 (τ : HP) (o_ : Nat) (a0 : Nat) (a1 : Int32) (a2 : Int32) (a3 : Int32) (v1 : Int32) : Option ((Int32) ⊕ ((Unit) ⊕ (Int32))) :=
  wt_bd (hgA τ o_ [0] 1) fun ad11 => wt_bd (hgA τ ad11 [2] 0) fun ad13 => wt_ck (hcl τ ad13 = some 13) <| wt_bd (eJ2_size τ ad13) fun w16 => if w16 ≤ v1 then (some (.inr (.inl ()))) else (wt_bd (hgA τ o_ [0] 1) fun ad19 => wt_bd (hgA τ ad19 [2] 0) fun ad21 => wt_ck (hcl τ ad21 = some 13) <| wt_bd (eJ2_get τ ad21 v1) fun w24 => wt_ck (hcl τ w24 = some 10) <| wt_bd (hgI τ w24 [10] 0) fun f27 => if f27 = a2 then (wt_bd (hgI τ w24 [10] 1) fun f31 => if f31 < a3 then (wt_lt (v1 + (1 : Int32)) fun n34 => some (.inl n34)) else (wt_bd (hgI τ w24 [10] 3) fun f35 => if f35 ≤ 0 then (wt_lt (v1 + (1 : Int32)) fun n38 => some (.inl n38)) else (wt_bd (hgI τ w24 [10] 2) fun f39 => wt_ck (hcl τ a0 = some 9) <| wt_bd (eX12_shedBy τ a0 a1 f39) fun w42 => if w42 ≤ 0 then (wt_lt (v1 + (1 : Int32)) fun n45 => some (.inl n45)) else (some (.inr (.inr (1 : Int32))))))) else (wt_lt (v1 + (1 : Int32)) fun n30 => some (.inl n30)))
noncomputable def eX1_isSign (τ : HP) (o_ : Nat) (a0 : Nat) (a1 : Int32) (a2 : Int32) (a3 : Int32) : Option (Int32) :=
  wt_bd (wt_whC (bX1_isSign_1 τ o_ a0 a1 a2 a3) (0 : Int32)) fun w2 => wt_rs w2 (fun w2 => some (0 : Int32)) (fun z_ => some z_)
set_option maxHeartbeats 4000000 in
theorem wX1_isSign (l : Launch) {G : HG} {A : Nat → Prop} {τ : HP} {o_ : Nat} {a0 : Nat} {a1 : Int32} {a2 : Int32} {a3 : Int32} {out_ : Int32} (hd : eX1_isSign τ o_ a0 a1 a2 a3 = some out_) : Met l yX1_isSign (ws_ yX1_isSign cX1_isSign 7 (some .boolean)) ({ frames := 3, cells := 0, slots := 0, locals := 64 }) (hPc G A τ [.ref o_, .ref a0, .int a1, .int a2, .int a3]) (hQi G out_ τ A) 0 0 A := by
  refine Met.ofW (cc := cX1_isSign) (maxL := 7) (ret := (some .boolean)) (by decide) rfl ?_
  intro p_ e_ s_ m_ args_ below_ meth_ c_ s₁_ B hml hv
  obtain ⟨rfl, hW, hC⟩ := hv
  have hx := B.exec
  have hb := B.bytes
  have hr := B.returns
  have hts := atoms_spec (ws := (ws_ yX1_isSign cX1_isSign 7 (some .boolean))) B.pre
  have hts : ∀ w ∈ lw_all, w.before _ s_ = true := fun w h => hts w (List.mem_cons_of_mem _ h)
  have hown : s_.vm.findClass RX1 = some m_.cls := findClass_of_methodNamed B.named
  have hlocks := B.notSynchronized
  have hK := hC.1
  have hT := hC.2.1
  have hL := hC.2.2.1
  have hZ := hC.2.2.2.2.1
  have hA := hC.2.2.2.2.2
  have hS : va_S A s_.heap s_.heap [] := va_S.rf
  have hl := lv_entry ([.ref o_, .ref a0, .int a1, .int a2, .int a3]) (n := 7) (Nat.le_of_ble_eq_true rfl)
  rw [lg_entry_eq]
  generalize (lg_sl ([.ref o_, .ref a0, .int a1, .int a2, .int a3]) ++ List.replicate (7 - (lg_sl ([.ref o_, .ref a0, .int a1, .int a2, .int a3])).length) Slot.unset).toArray = ls at hl ⊢
  have hl : lv_has ls 7 [(0, .ref o_), (1, .ref a0), (2, .int a1), (3, .int a2), (4, .int a3)] := hl
  unfold eX1_isSign at hd
  refine lv_iconst (pc := 0) (v := 0) hx hb dX1_isSign_0 (by decide) ?_
  refine lv_istore (pc := 1) (lv' := [(5, .int (0 : Int32)), (0, .ref o_), (1, .ref a0), (2, .int a1), (3, .int a2), (4, .int a3)]) hx hb dX1_isSign_1 hl (by decide) rfl (fun ls hl => ?_)
  obtain ⟨w2, hL3, hq4⟩ := wt_bd_o hd
  have hX5 : ∀ w2_ : Unit, (Sum.inl w2_ : (Unit) ⊕ _) = w2 → ∀ (H : Heap) (locs : List Loc) (ls : Array Slot), Hw G A τ H → va_S A s_.heap H locs → lv_has ls 7 [] → W p_ l e_ (headSpec (ws_ yX1_isSign cX1_isSign 7 (some .boolean)) ({ frames := 3, cells := 0, slots := 0, locals := 64 })).room s_ m_ ([.ref o_, .ref a0, .int a1, .int a2, .int a3] : List Value).toArray below_ meth_ c_ H locs 0 0 (MQ below_ (hQi G out_ τ A) ([.ref o_, .ref a0, .int a1, .int a2, .int a3] : List Value).toArray s_ 0 0 A) (F0 m_ 83 ls []) := by
    intro w2_ hw_
    have hd := wt_rs_l hw_ hq4
    clear hL3 hq4
    intro H locs ls hW hS hl
    refine lv_iconst (pc := 83) (v := 0) hx hb dX1_isSign_83 (by decide) ?_
    exact hr_iret hx hb hr rfl hlocks (Option.some.inj hd) rfl hW hS dX1_isSign_84 (Nat.le_of_ble_eq_true rfl) (Nat.le_of_ble_eq_true rfl)
  have hI10 : ∀ (k9 : Nat) (v1 : Int32), wt_wh (bX1_isSign_1 τ o_ a0 a1 a2 a3) k9 v1 = some w2 → ∀ (H : Heap) (locs : List Loc) (ls : Array Slot), Hw G A τ H → va_S A s_.heap H locs → lv_has ls 7 [(0, .ref o_), (1, .ref a0), (2, .int a1), (3, .int a2), (4, .int a3), (5, .int v1)] → W p_ l e_ (headSpec (ws_ yX1_isSign cX1_isSign 7 (some .boolean)) ({ frames := 3, cells := 0, slots := 0, locals := 64 })).room s_ m_ ([.ref o_, .ref a0, .int a1, .int a2, .int a3] : List Value).toArray below_ meth_ c_ H locs 0 0 (MQ below_ (hQi G out_ τ A) ([.ref o_, .ref a0, .int a1, .int a2, .int a3] : List Value).toArray s_ 0 0 A) (F0 m_ 3 ls []) := by
    intro k9
    induction k9 with
    | zero => intro v1 hd; exact absurd hd wt_wh_z
    | succ k9 ih7 =>
      intro v1 hd
      intro H locs ls hW hS hl
      obtain ⟨r8, hd, hk6⟩ := wt_wh_o hd
      unfold bX1_isSign_1 at hd
      refine lv_iload (pc := 3) hx hb dX1_isSign_3 (lv_at hl 5 rfl) ?_
      refine lv_aload_n (pc := 5) hx hb dX1_isSign_5 rfl (lv_at hl 0 rfl) ?_
      obtain ⟨ad11, h12, hd⟩ := wt_bd_o hd
      refine hr_get (pc := 6) hx hb hts hown hK hW (hgA_o h12) hf_0_1 (fun _ h => h) q536 dX1_isSign_6 ?_
      obtain ⟨ad13, h14, hd⟩ := wt_bd_o hd
      refine hr_getN (pc := 9) hx hb hts hown hK hT hW (hgA_o h14) hf_2_0 (fun _ h => h) q515 dX1_isSign_9 ?_
      obtain ⟨h15, hd⟩ := wt_ck_o hd
      obtain ⟨w16, hc17, hd⟩ := wt_bd_o hd
      refine kJ2_size (pc := 12) hx hb hml hown hts hC hW hS h15 hc17 hl.1 (Nat.le_of_ble_eq_true rfl) ⟨Nat.le_of_ble_eq_true rfl, Nat.le_of_ble_eq_true rfl⟩ ⟨Nat.le_of_ble_eq_true rfl, Nat.le_of_ble_eq_true rfl⟩ q666 dX1_isSign_12 (fun H locs hW hS => ?_)
      refine lv_icmp_ge (pc := 15) (tgt := 83) hx hb dX1_isSign_15 (by decide) (fun c18 => ?_) (fun c18 => ?_)
      · have hd := wt_it hd c18
        exact hX5 () (wt_exit hd hk6) _ _ _ hW hS (lv_sub hl [] rfl)
      · have hd := wt_if hd c18
        refine lv_aload_n (pc := 18) hx hb dX1_isSign_18 rfl (lv_at hl 0 rfl) ?_
        obtain ⟨ad19, h20, hd⟩ := wt_bd_o hd
        refine hr_get (pc := 19) hx hb hts hown hK hW (hgA_o h20) hf_0_1 (fun _ h => h) q536 dX1_isSign_19 ?_
        obtain ⟨ad21, h22, hd⟩ := wt_bd_o hd
        refine hr_getN (pc := 22) hx hb hts hown hK hT hW (hgA_o h22) hf_2_0 (fun _ h => h) q515 dX1_isSign_22 ?_
        refine lv_iload (pc := 25) hx hb dX1_isSign_25 (lv_at hl 5 rfl) ?_
        obtain ⟨h23, hd⟩ := wt_ck_o hd
        obtain ⟨w24, hc25, hd⟩ := wt_bd_o hd
        refine kJ2_get (pc := 27) hx hb hml hown hts hC hW hS h23 hc25 hl.1 (Nat.le_of_ble_eq_true rfl) ⟨Nat.le_of_ble_eq_true rfl, Nat.le_of_ble_eq_true rfl⟩ ⟨Nat.le_of_ble_eq_true rfl, Nat.le_of_ble_eq_true rfl⟩ q1024 dX1_isSign_27 (fun H locs hW hS => ?_)
        obtain ⟨h26, hd⟩ := wt_ck_o hd
        refine hr_cast (pc := 30) (ci := 10) hx hb hts hown hK hW h26 rfl rfl q1162 dX1_isSign_30 ?_
        refine lv_astore (pc := 33) (lv' := [(6, .ref w24), (0, .ref o_), (1, .ref a0), (2, .int a1), (3, .int a2), (4, .int a3), (5, .int v1)]) hx hb dX1_isSign_33 hl (by decide) rfl (fun ls hl => ?_)
        refine lv_aload (pc := 35) hx hb dX1_isSign_35 (lv_at hl 0 rfl) ?_
        obtain ⟨f27, h28, hd⟩ := wt_bd_o hd
        refine hr_getN (pc := 37) hx hb hts hown hK hT hW (hgI_o h28) hf_10_0 (fun _ h => h) q1170 dX1_isSign_37 ?_
        refine lv_iload_n (pc := 40) hx hb dX1_isSign_40 rfl (lv_at hl 4 rfl) ?_
        refine lv_icmp_ne (pc := 41) (tgt := 77) hx hb dX1_isSign_41 (by decide) (fun c29 => ?_) (fun c29 => ?_)
        · have hd := wt_if hd c29
          obtain ⟨n30, en30, hd⟩ := wt_lt_o hd
          refine lv_iinc (pc := 77) (k := 6) (v := n30) (lv' := [(5, .int n30), (6, .ref w24), (0, .ref o_), (1, .ref a0), (2, .int a1), (3, .int a2), (4, .int a3)]) hx hb dX1_isSign_77 hl rfl en30.symm (by decide) rfl (fun ls hl => ?_)
          refine lv_goto (pc := 80) (tgt := 3) hx hb dX1_isSign_80 (by decide) ?_
          exact ih7 _ (wt_again hd hk6) _ _ _ hW hS (lv_sub hl [2, 3, 4, 5, 6, 0] rfl)
        · have hd := wt_it hd c29
          refine lv_aload (pc := 44) hx hb dX1_isSign_44 (lv_at hl 0 rfl) ?_
          obtain ⟨f31, h32, hd⟩ := wt_bd_o hd
          refine hr_getN (pc := 46) hx hb hts hown hK hT hW (hgI_o h32) hf_10_1 (fun _ h => h) q1173 dX1_isSign_46 ?_
          refine lv_iload (pc := 49) hx hb dX1_isSign_49 (lv_at hl 5 rfl) ?_
          refine lv_icmp_lt (pc := 51) (tgt := 77) hx hb dX1_isSign_51 (by decide) (fun c33 => ?_) (fun c33 => ?_)
          · have hd := wt_it hd c33
            obtain ⟨n34, en34, hd⟩ := wt_lt_o hd
            refine lv_iinc (pc := 77) (k := 6) (v := n34) (lv' := [(5, .int n34), (6, .ref w24), (0, .ref o_), (1, .ref a0), (2, .int a1), (3, .int a2), (4, .int a3)]) hx hb dX1_isSign_77 hl rfl en34.symm (by decide) rfl (fun ls hl => ?_)
            refine lv_goto (pc := 80) (tgt := 3) hx hb dX1_isSign_80 (by decide) ?_
            exact ih7 _ (wt_again hd hk6) _ _ _ hW hS (lv_sub hl [2, 3, 4, 5, 6, 0] rfl)
          · have hd := wt_if hd c33
            refine lv_aload (pc := 54) hx hb dX1_isSign_54 (lv_at hl 0 rfl) ?_
            obtain ⟨f35, h36, hd⟩ := wt_bd_o hd
            refine hr_getN (pc := 56) hx hb hts hown hK hT hW (hgI_o h36) hf_10_3 (fun _ h => h) q1179 dX1_isSign_56 ?_
            refine lv_if_le (pc := 59) (tgt := 77) hx hb dX1_isSign_59 (by decide) (fun c37 => ?_) (fun c37 => ?_)
            · have hd := wt_it hd c37
              obtain ⟨n38, en38, hd⟩ := wt_lt_o hd
              refine lv_iinc (pc := 77) (k := 6) (v := n38) (lv' := [(5, .int n38), (6, .ref w24), (0, .ref o_), (1, .ref a0), (2, .int a1), (3, .int a2), (4, .int a3)]) hx hb dX1_isSign_77 hl rfl en38.symm (by decide) rfl (fun ls hl => ?_)
              refine lv_goto (pc := 80) (tgt := 3) hx hb dX1_isSign_80 (by decide) ?_
              exact ih7 _ (wt_again hd hk6) _ _ _ hW hS (lv_sub hl [2, 3, 4, 5, 6, 0] rfl)
            · have hd := wt_if hd c37
              refine lv_aload_n (pc := 62) hx hb dX1_isSign_62 rfl (lv_at hl 2 rfl) ?_
              refine lv_iload_n (pc := 63) hx hb dX1_isSign_63 rfl (lv_at hl 3 rfl) ?_
              refine lv_aload (pc := 64) hx hb dX1_isSign_64 (lv_at hl 0 rfl) ?_
              obtain ⟨f39, h40, hd⟩ := wt_bd_o hd
              refine hr_getN (pc := 66) hx hb hts hown hK hT hW (hgI_o h40) hf_10_2 (fun _ h => h) q1176 dX1_isSign_66 ?_
              obtain ⟨h41, hd⟩ := wt_ck_o hd
              obtain ⟨w42, hc43, hd⟩ := wt_bd_o hd
              refine kX12_shedBy (pc := 69) hx hb hml hown hts hC hW hS h41 hc43 hl.1 (Nat.le_of_ble_eq_true rfl) ⟨Nat.le_of_ble_eq_true rfl, Nat.le_of_ble_eq_true rfl⟩ ⟨Nat.le_of_ble_eq_true rfl, Nat.le_of_ble_eq_true rfl⟩ q1513 dX1_isSign_69 (fun H locs hW hS => ?_)
              refine lv_if_le (pc := 72) (tgt := 77) hx hb dX1_isSign_72 (by decide) (fun c44 => ?_) (fun c44 => ?_)
              · have hd := wt_it hd c44
                obtain ⟨n45, en45, hd⟩ := wt_lt_o hd
                refine lv_iinc (pc := 77) (k := 6) (v := n45) (lv' := [(5, .int n45), (6, .ref w24), (0, .ref o_), (1, .ref a0), (2, .int a1), (3, .int a2), (4, .int a3)]) hx hb dX1_isSign_77 hl rfl en45.symm (by decide) rfl (fun ls hl => ?_)
                refine lv_goto (pc := 80) (tgt := 3) hx hb dX1_isSign_80 (by decide) ?_
                exact ih7 _ (wt_again hd hk6) _ _ _ hW hS (lv_sub hl [2, 3, 4, 5, 6, 0] rfl)
              · have hd := wt_if hd c44
                refine lv_iconst (pc := 75) (v := 1) hx hb dX1_isSign_75 (by decide) ?_
                have hd := wt_rs_r (wt_exit hd hk6) hq4
                exact hr_iret hx hb hr rfl hlocks (Option.some.inj hd) rfl hW hS dX1_isSign_76 (Nat.le_of_ble_eq_true rfl) (Nat.le_of_ble_eq_true rfl)
  obtain ⟨k9, hL3⟩ := wt_whC_o hL3
  exact hI10 k9 _ hL3 _ _ _ hW hS (lv_sub hl [1, 2, 3, 4, 5, 0] rfl)
theorem kX1_isSign {p : Program} {l : Launch} {e : Env} {R : Room} {s : State} {m : MethodId} {args : Array Value} {below : List Frame} {meth : Method} {c : Code} {H : Heap} {locs : List Loc} {cells slots : Nat} {Q : State → Prop} {cc : ByteArray} {pc : Nat} {ls : Array Slot} {rest : List Value} {nL : Nat} {own : String} {index : Nat} {G : HG} {A : Nat → Prop} {τ : HP} {o_ : Nat} {a0 : Nat} {a1 : Int32} {a2 : Int32} {a3 : Int32} {out_ : Int32} (hx : p.tables.exec = Jvm.exec) (hb : c.code = cc) (hml : c.maxLocals = nL) (hown : s.vm.findClass own = some m.cls) (hts : ∀ w ∈ lw_all, w.before args s = true) (hC : Hcx G A s) (hW : Hw G A τ H) (hS : va_S A s.heap H locs) (hrc : hcl τ o_ = some 0) (hd : eX1_isSign τ o_ a0 a1 a2 a3 = some out_) (hsz : ls.size = nL) (hrm : (rest.map fun v => v.category).sum ≤ 8) (hR : 4 ≤ R.frames ∧ 90 ≤ R.locals) (hcs : cells ≤ R.cells ∧ slots ≤ R.slots) (hlk : Cond.methodLink own index yX1_isSign ∈ lw_all) (hdg : decode cc pc = .ok (.invokevirtual index, 3)) (kk : ∀ (H1 : Heap) (locs1 : List Loc), Hw G A τ H1 → va_S A s.heap H1 locs1 → W p l e R s m args below meth c H1 locs1 cells slots Q (F0 m (pc + 3) ls (.int out_ :: rest))) : W p l e R s m args below meth c H locs cells slots Q (F0 m pc ls (.int a3 :: .int a2 :: .int a1 :: .ref a0 :: .ref o_ :: rest)) := by
  refine va_calli (va_runV (As := [.ref a0, .int a1, .int a2, .int a3]) (rest := rest) ⟨hx, hb, hml, hown, hts⟩ (wX1_isSign l hd) (cwV 4 hts (lw_V hlk q1511 qs24 q66 q1512) rfl rfl rfl (by decide +kernel) hR) (hr_preV hC hW hS hrc rfl rfl) rfl rfl hsz rfl (lv_room hrm) hdg hcs) hS (fun _ _ h => h) (fun _ h => h) (fun r u t H1 locs1 ht hvm hp hB hz hk hS1 => ?_)
  have hp : r = out_ := hp
  subst hp
  have hW1 : Hw G A τ t.heap := hB
  rw [ht] at hW1
  exact kk H1 locs1 hW1 hS1
noncomputable def eX1_signs (τ : HP) (o_ : Nat) (a0 : Int32) (a1 : Int32) : Option ((Int32 × HP) ⊕ (Nat × Nat × HP)) :=
  wt_ck (hcl τ o_ = some 0) <| wt_bd (eX1_run τ o_ a0) fun w2 => wt_rs w2 (fun o4 => wt_bd (eX1_isEvent o4.2 o4.1 a1) fun w5 => wt_rs w5 (fun o7 => wt_bd (hgA o4.2 o4.1 [8] 0) fun ad8 => wt_ck (hcl o4.2 ad8 = some 13) <| wt_bd (eJ2_get o4.2 ad8 a1) fun w11 => wt_bd (hcl o4.2 w11) fun c13 => wt_ck (hev c13 = true) <| wt_bd (hcl o4.2 w11) fun c16 => wt_ck (hev c16 = true) <| wt_lt ((if c16 = 6 then 1 else 0 : Int32)) fun n19 => if n19 = 0 then (some (.inl ((0 : Int32), o4.2))) else (wt_ck (hcl o4.2 w11 = some 6) <| wt_bd (hgI o4.2 w11 [6] 1) fun f22 => wt_ck (hcl o4.2 o4.1 = some 8) <| wt_bd (eX11_at_2 o4.2 o4.1 f22 a1) fun w25 => wt_bd (hgI w25.2 w11 [6] 0) fun f27 => wt_bd (hgI w25.2 w11 [6] 2) fun f29 => wt_bd (hgI w25.2 w11 [6] 1) fun f31 => wt_ck (hcl w25.2 o_ = some 0) <| wt_bd (eX1_isSign w25.2 o_ w25.1 f27 f29 f31) fun w34 => wt_bd (if w34 = 0 then (some (0 : Int32)) else (some (1 : Int32))) fun w36 => wt_bd (hgI w25.2 w11 [6] 2) fun f41 => wt_bd (hgI w25.2 w11 [6] 0) fun f43 => wt_bd (hgI w25.2 w11 [6] 1) fun f45 => wt_ck (hcl w25.2 o_ = some 0) <| wt_bd (eX1_isSign w25.2 o_ w25.1 f41 f43 f45) fun w48 => if w48 = 0 then (some (.inl ((w36 + (0 : Int32)), w25.2))) else (some (.inl ((w36 + (2 : Int32)), w25.2))))) (fun x_ => some (.inr x_))) (fun x_ => some (.inr x_))
set_option maxHeartbeats 4000000 in
theorem wX1_signs (l : Launch) (hfl : l.stackTraces = false) {G : HG} {A : Nat → Prop} {τ : HP} {o_ : Nat} {a0 : Int32} {a1 : Int32} {out_ : (Int32 × HP) ⊕ (Nat × Nat × HP)} (hd : eX1_signs τ o_ a0 a1 = some out_) : vx_Met l yX1_signs (ws_ yX1_signs cX1_signs 7 (some .int)) ({ frames := 7, cells := 5, slots := 126, locals := 131 }) (hPc G A τ [.ref o_, .int a0, .int a1]) (hXi G A (fun r u => Sum.inl (r, u) = out_)) (hXX G A out_) 5 126 A := by
  refine vx_ofW (cc := cX1_signs) (maxL := 7) (ret := (some .int)) (by decide) rfl ?_
  intro p_ e_ s_ m_ args_ below_ meth_ c_ s₁_ B hml hno hv
  obtain ⟨rfl, hW, hC⟩ := hv
  have hx := B.exec
  have hb := B.bytes
  have hr := B.returns
  have hts := atoms_spec (ws := (ws_ yX1_signs cX1_signs 7 (some .int))) B.pre
  have hts : ∀ w ∈ lw_all, w.before _ s_ = true := fun w h => hts w (List.mem_cons_of_mem _ h)
  have hown : s_.vm.findClass RX1 = some m_.cls := findClass_of_methodNamed B.named
  have hlocks := B.notSynchronized
  have hK := hC.1
  have hT := hC.2.1
  have hL := hC.2.2.1
  have hZ := hC.2.2.2.2.1
  have hA := hC.2.2.2.2.2
  have hS : va_S A s_.heap s_.heap [] := va_S.rf
  have hl := lv_entry ([.ref o_, .int a0, .int a1]) (n := 7) (Nat.le_of_ble_eq_true rfl)
  rw [lg_entry_eq]
  generalize (lg_sl ([.ref o_, .int a0, .int a1]) ++ List.replicate (7 - (lg_sl ([.ref o_, .int a0, .int a1])).length) Slot.unset).toArray = ls at hl ⊢
  have hl : lv_has ls 7 [(0, .ref o_), (1, .int a0), (2, .int a1)] := hl
  unfold eX1_signs at hd
  refine lv_aload_n (pc := 0) hx hb dX1_signs_0 rfl (lv_at hl 0 rfl) ?_
  refine lv_iload_n (pc := 1) hx hb dX1_signs_1 rfl (lv_at hl 1 rfl) ?_
  obtain ⟨h1, hd⟩ := wt_ck_o hd
  obtain ⟨w2, hc3, hd⟩ := wt_bd_o hd
  refine kX1_run (pc := 2) hfl hx hb hml hown hts hC hW hS h1 hc3 hl.1 (Nat.le_of_ble_eq_true rfl) ⟨Nat.le_of_ble_eq_true rfl, Nat.le_of_ble_eq_true rfl⟩ ⟨(Nat.le_of_ble_eq_true rfl), (Nat.le_of_ble_eq_true rfl)⟩ q1003 dX1_signs_2 (fun x_ hx_ E_ ce_ q9_ H locs hXB hS hce hvn hfc => ?_) (fun o4 ho_ H locs hW hS => ?_)
  · have hd := wt_rs_r hx_ hd
    exact hx_out (fun z hz => (hno z hz).elim) hlocks hce hvn hfc (Option.some.inj hd) hXB hS (Nat.le_of_ble_eq_true rfl) (Nat.le_of_ble_eq_true rfl)
  · have hd := wt_rs_l ho_ hd
    refine lv_astore_n (pc := 5) (lv' := [(3, .ref o4.1), (0, .ref o_), (1, .int a0), (2, .int a1)]) hx hb dX1_signs_5 rfl hl (by decide) rfl (fun ls hl => ?_)
    refine lv_aload_n (pc := 6) hx hb dX1_signs_6 rfl (lv_at hl 0 rfl) ?_
    refine lv_iload_n (pc := 7) hx hb dX1_signs_7 rfl (lv_at hl 3 rfl) ?_
    obtain ⟨w5, hc6, hd⟩ := wt_bd_o hd
    refine kX1_isEvent (pc := 8) hfl hx hb hml hown hts hC hW hS hc6 hl.1 (Nat.le_of_ble_eq_true rfl) ⟨Nat.le_of_ble_eq_true rfl, Nat.le_of_ble_eq_true rfl⟩ ⟨(Nat.le_of_ble_eq_true rfl), (Nat.le_of_ble_eq_true rfl)⟩ q1382 dX1_signs_8 (fun x_ hx_ E_ ce_ q9_ H locs hXB hS hce hvn hfc => ?_) (fun o7 ho_ H locs hW hS => ?_)
    · have hd := wt_rs_r hx_ hd
      exact hx_out (fun z hz => (hno z hz).elim) hlocks hce hvn hfc (Option.some.inj hd) hXB hS (Nat.le_of_ble_eq_true rfl) (Nat.le_of_ble_eq_true rfl)
    · have hd := wt_rs_l ho_ hd
      refine lv_aload_n (pc := 11) hx hb dX1_signs_11 rfl (lv_at hl 0 rfl) ?_
      obtain ⟨ad8, h9, hd⟩ := wt_bd_o hd
      refine hr_getN (pc := 12) hx hb hts hown hK hT hW (hgA_o h9) hf_8_0 (fun _ h => h) q1030 dX1_signs_12 ?_
      refine lv_iload_n (pc := 15) hx hb dX1_signs_15 rfl (lv_at hl 3 rfl) ?_
      obtain ⟨h10, hd⟩ := wt_ck_o hd
      obtain ⟨w11, hc12, hd⟩ := wt_bd_o hd
      refine kJ2_get (pc := 16) hx hb hml hown hts hC hW hS h10 hc12 hl.1 (Nat.le_of_ble_eq_true rfl) ⟨Nat.le_of_ble_eq_true rfl, Nat.le_of_ble_eq_true rfl⟩ ⟨Nat.le_of_ble_eq_true rfl, Nat.le_of_ble_eq_true rfl⟩ q1024 dX1_signs_16 (fun H locs hW hS => ?_)
      obtain ⟨c13, h14, hd⟩ := wt_bd_o hd
      obtain ⟨h15, hd⟩ := wt_ck_o hd
      refine hr_castE (pc := 19) hx hb hts hown hC hW h14 h15 q1507 dX1_signs_19 ?_
      refine lv_astore (pc := 22) (lv' := [(4, .ref w11), (3, .ref o4.1), (0, .ref o_), (1, .int a0), (2, .int a1)]) hx hb dX1_signs_22 hl (by decide) rfl (fun ls hl => ?_)
      refine lv_aload (pc := 24) hx hb dX1_signs_24 (lv_at hl 0 rfl) ?_
      obtain ⟨c16, h17, hd⟩ := wt_bd_o hd
      obtain ⟨h18, hd⟩ := wt_ck_o hd
      obtain ⟨n19, en19, hd⟩ := wt_lt_o hd
      refine hr_instT (pc := 26) hx hb hts hown hC hW h17 h18 en19 q1410 dX1_signs_26 ?_
      refine lv_if_ne (pc := 29) (tgt := 34) hx hb dX1_signs_29 (by decide) (fun c20 => ?_) (fun c20 => ?_)
      · have hd := wt_if hd c20
        refine lv_aload (pc := 34) hx hb dX1_signs_34 (lv_at hl 0 rfl) ?_
        obtain ⟨h21, hd⟩ := wt_ck_o hd
        refine hr_cast (pc := 36) (ci := 6) hx hb hts hown hK hW h21 rfl rfl q1410 dX1_signs_36 ?_
        refine lv_astore (pc := 39) (lv' := [(5, .ref w11), (4, .ref w11), (3, .ref o4.1), (0, .ref o_), (1, .int a0), (2, .int a1)]) hx hb dX1_signs_39 hl (by decide) rfl (fun ls hl => ?_)
        refine lv_aload_n (pc := 41) hx hb dX1_signs_41 rfl (lv_at hl 2 rfl) ?_
        refine lv_aload (pc := 42) hx hb dX1_signs_42 (lv_at hl 0 rfl) ?_
        obtain ⟨f22, h23, hd⟩ := wt_bd_o hd
        refine hr_get (pc := 44) hx hb hts hown hK hW (hgI_o h23) hf_6_1 (u_same (hts _ q936)) q935 dX1_signs_44 ?_
        refine lv_iload_n (pc := 47) hx hb dX1_signs_47 rfl (lv_at hl 5 rfl) ?_
        obtain ⟨h24, hd⟩ := wt_ck_o hd
        obtain ⟨w25, hc26, hd⟩ := wt_bd_o hd
        refine kX11_at_2 (pc := 48) hx hb hml hown hts hC hW hS h24 hc26 hl.1 (Nat.le_of_ble_eq_true rfl) ⟨Nat.le_of_ble_eq_true rfl, Nat.le_of_ble_eq_true rfl⟩ ⟨(Nat.le_of_ble_eq_true rfl), (Nat.le_of_ble_eq_true rfl)⟩ q1508 dX1_signs_48 (fun H locs hW hS => ?_)
        refine lv_astore (pc := 51) (lv' := [(6, .ref w25.1), (5, .ref w11), (4, .ref w11), (3, .ref o4.1), (0, .ref o_), (1, .int a0), (2, .int a1)]) hx hb dX1_signs_51 hl (by decide) rfl (fun ls hl => ?_)
        refine lv_aload_n (pc := 53) hx hb dX1_signs_53 rfl (lv_at hl 4 rfl) ?_
        refine lv_aload (pc := 54) hx hb dX1_signs_54 (lv_at hl 0 rfl) ?_
        refine lv_aload (pc := 56) hx hb dX1_signs_56 (lv_at hl 1 rfl) ?_
        obtain ⟨f27, h28, hd⟩ := wt_bd_o hd
        refine hr_get (pc := 58) hx hb hts hown hK hW (hgI_o h28) hf_6_0 (u_same (hts _ q928)) q931 dX1_signs_58 ?_
        refine lv_aload (pc := 61) hx hb dX1_signs_61 (lv_at hl 1 rfl) ?_
        obtain ⟨f29, h30, hd⟩ := wt_bd_o hd
        refine hr_getN (pc := 63) hx hb hts hown hK hT hW (hgI_o h30) hf_6_2 (fun _ h => h) q951 dX1_signs_63 ?_
        refine lv_aload (pc := 66) hx hb dX1_signs_66 (lv_at hl 1 rfl) ?_
        obtain ⟨f31, h32, hd⟩ := wt_bd_o hd
        refine hr_get (pc := 68) hx hb hts hown hK hW (hgI_o h32) hf_6_1 (u_same (hts _ q936)) q935 dX1_signs_68 ?_
        obtain ⟨h33, hd⟩ := wt_ck_o hd
        obtain ⟨w34, hc35, hd⟩ := wt_bd_o hd
        refine kX1_isSign (pc := 71) hx hb hml hown hts hC hW hS h33 hc35 hl.1 (Nat.le_of_ble_eq_true rfl) ⟨Nat.le_of_ble_eq_true rfl, Nat.le_of_ble_eq_true rfl⟩ ⟨Nat.le_of_ble_eq_true rfl, Nat.le_of_ble_eq_true rfl⟩ q1509 dX1_signs_71 (fun H locs hW hS => ?_)
        obtain ⟨w36, hj37, hq38⟩ := wt_bd_o hd
        have hX39 : ∀ w36_ : Int32, w36_ = w36 → ∀ (H : Heap) (locs : List Loc) (ls : Array Slot), Hw G A w25.2 H → va_S A s_.heap H locs → lv_has ls 7 [(0, .ref o_), (5, .ref w11), (6, .ref w25.1)] → W p_ l e_ (headSpec (ws_ yX1_signs cX1_signs 7 (some .int)) ({ frames := 7, cells := 5, slots := 126, locals := 131 })).room s_ m_ ([.ref o_, .int a0, .int a1] : List Value).toArray below_ meth_ c_ H locs 5 126 (vx_MQ below_ (hXi G A (fun r u => Sum.inl (r, u) = out_)) (hXX G A out_) ([.ref o_, .int a0, .int a1] : List Value).toArray s_ 5 126 A) (F0 m_ 82 ls [.int w36_]) := by
          intro w36_ hw_
          have hd := hq38
          subst hw_
          clear hj37 hq38
          intro H locs ls hW hS hl
          refine lv_aload_n (pc := 82) hx hb dX1_signs_82 rfl (lv_at hl 0 rfl) ?_
          refine lv_aload (pc := 83) hx hb dX1_signs_83 (lv_at hl 2 rfl) ?_
          refine lv_aload (pc := 85) hx hb dX1_signs_85 (lv_at hl 1 rfl) ?_
          obtain ⟨f41, h42, hd⟩ := wt_bd_o hd
          refine hr_getN (pc := 87) hx hb hts hown hK hT hW (hgI_o h42) hf_6_2 (fun _ h => h) q951 dX1_signs_87 ?_
          refine lv_aload (pc := 90) hx hb dX1_signs_90 (lv_at hl 1 rfl) ?_
          obtain ⟨f43, h44, hd⟩ := wt_bd_o hd
          refine hr_get (pc := 92) hx hb hts hown hK hW (hgI_o h44) hf_6_0 (u_same (hts _ q928)) q931 dX1_signs_92 ?_
          refine lv_aload (pc := 95) hx hb dX1_signs_95 (lv_at hl 1 rfl) ?_
          obtain ⟨f45, h46, hd⟩ := wt_bd_o hd
          refine hr_get (pc := 97) hx hb hts hown hK hW (hgI_o h46) hf_6_1 (u_same (hts _ q936)) q935 dX1_signs_97 ?_
          obtain ⟨h47, hd⟩ := wt_ck_o hd
          obtain ⟨w48, hc49, hd⟩ := wt_bd_o hd
          refine kX1_isSign (pc := 100) hx hb hml hown hts hC hW hS h47 hc49 hl.1 (Nat.le_of_ble_eq_true rfl) ⟨Nat.le_of_ble_eq_true rfl, Nat.le_of_ble_eq_true rfl⟩ ⟨Nat.le_of_ble_eq_true rfl, Nat.le_of_ble_eq_true rfl⟩ q1509 dX1_signs_100 (fun H locs hW hS => ?_)
          refine lv_if_eq (pc := 103) (tgt := 110) hx hb dX1_signs_103 (by decide) (fun c50 => ?_) (fun c50 => ?_)
          · have hd := wt_it hd c50
            refine lv_iconst (pc := 110) (v := 0) hx hb dX1_signs_110 (by decide) ?_
            refine lv_iadd (pc := 111) hx hb dX1_signs_111 ?_
            refine vx_ret ?_
            exact hx_iret hx hb hr rfl hlocks (Option.some.inj hd) hW hS dX1_signs_112 (Nat.le_of_ble_eq_true rfl) (Nat.le_of_ble_eq_true rfl)
          · have hd := wt_if hd c50
            refine lv_iconst (pc := 106) (v := 2) hx hb dX1_signs_106 (by decide) ?_
            refine lv_goto (pc := 107) (tgt := 111) hx hb dX1_signs_107 (by decide) ?_
            refine lv_iadd (pc := 111) hx hb dX1_signs_111 ?_
            refine vx_ret ?_
            exact hx_iret hx hb hr rfl hlocks (Option.some.inj hd) hW hS dX1_signs_112 (Nat.le_of_ble_eq_true rfl) (Nat.le_of_ble_eq_true rfl)
        have hd := hj37
        refine lv_if_eq (pc := 74) (tgt := 81) hx hb dX1_signs_74 (by decide) (fun c40 => ?_) (fun c40 => ?_)
        · have hd := wt_it hd c40
          refine lv_iconst (pc := 81) (v := 0) hx hb dX1_signs_81 (by decide) ?_
          exact hX39 (0 : Int32) (Option.some.inj hd) _ _ _ hW hS (lv_sub hl [4, 1, 0] rfl)
        · have hd := wt_if hd c40
          refine lv_iconst (pc := 77) (v := 1) hx hb dX1_signs_77 (by decide) ?_
          refine lv_goto (pc := 78) (tgt := 82) hx hb dX1_signs_78 (by decide) ?_
          exact hX39 (1 : Int32) (Option.some.inj hd) _ _ _ hW hS (lv_sub hl [4, 1, 0] rfl)
      · have hd := wt_it hd c20
        refine lv_iconst (pc := 32) (v := 0) hx hb dX1_signs_32 (by decide) ?_
        refine vx_ret ?_
        exact hx_iret hx hb hr rfl hlocks (Option.some.inj hd) hW hS dX1_signs_33 (Nat.le_of_ble_eq_true rfl) (Nat.le_of_ble_eq_true rfl)
theorem kX1_signs {p : Program} {l : Launch} {e : Env} {R : Room} {s : State} {m : MethodId} {args : Array Value} {below : List Frame} {meth : Method} {c : Code} {H : Heap} {locs : List Loc} {cells slots : Nat} {Q : State → Prop} {cc : ByteArray} {pc : Nat} {ls : Array Slot} {rest : List Value} {nL : Nat} {own : String} {index : Nat} {G : HG} {A : Nat → Prop} {τ : HP} {o_ : Nat} {a0 : Int32} {a1 : Int32} {out_ : (Int32 × HP) ⊕ (Nat × Nat × HP)} (hfl : l.stackTraces = false) (hx : p.tables.exec = Jvm.exec) (hb : c.code = cc) (hml : c.maxLocals = nL) (hown : s.vm.findClass own = some m.cls) (hts : ∀ w ∈ lw_all, w.before args s = true) (hC : Hcx G A s) (hW : Hw G A τ H) (hS : va_S A s.heap H locs) (hrc : hcl τ o_ = some 0) (hd : eX1_signs τ o_ a0 a1 = some out_) (hsz : ls.size = nL) (hrm : (rest.map fun v => v.category).sum ≤ 8) (hR : 8 ≤ R.frames ∧ 157 ≤ R.locals) (hcs : (cells + 5) ≤ R.cells ∧ (slots + 126) ≤ R.slots) (hlk : Cond.methodLink own index yX1_signs ∈ lw_all) (hdg : decode cc pc = .ok (.invokevirtual index, 3)) (kx : ∀ x_ : Nat × Nat × HP, Sum.inr x_ = out_ → ∀ (E : String) (ce : Cell) (q9 : Addr) (H1 : Heap) (locs1 : List Loc), hXb G A E q9 x_ H1 → va_S A s.heap H1 locs1 → H1[q9]? = some ce → ce.vm = .none → s.vm.findClass E = some ce.cls → vx_W p l e R s m args below meth c H1 locs1 (cells + 5) (slots + 126) Q (F0 m pc ls rest) q9) (kk : ∀ o_1 : Int32 × HP, Sum.inl o_1 = out_ → ∀ (H1 : Heap) (locs1 : List Loc), Hw G A o_1.2 H1 → va_S A s.heap H1 locs1 → W p l e R s m args below meth c H1 locs1 (cells + 5) (slots + 126) Q (F0 m (pc + 3) ls (.int o_1.1 :: rest))) : W p l e R s m args below meth c H locs cells slots Q (F0 m pc ls (.int a1 :: .int a0 :: .ref o_ :: rest)) := by
  refine vx_calli (vx_runV (As := [.int a0, .int a1]) (rest := rest) ⟨hx, hb, hml, hown, hts⟩ (wX1_signs l hfl hd) (cwV 2 hts (lw_V hlk q1504 q1505 q66 q1506) rfl rfl rfl (by decide +kernel) hR) (hr_preV hC hW hS hrc rfl rfl) rfl rfl hsz rfl (lv_room hrm) hdg hcs) hS (fun _ _ h => h) (fun _ h => h) (fun _ _ h => h) (fun E ce q9 u t H1 locs1 ht hvm hp hB hz hk hS1 hce hvn hfc => ?_) (fun r u t H1 locs1 ht hvm hp hB hz hk hS1 => ?_)
  · rw [ht] at hB
    exact kx u hp E ce q9 H1 locs1 hB hS1 hce hvn hfc
  · have hW1 : Hw G A u t.heap := hB
    rw [ht] at hW1
    exact kk (r, u) hp H1 locs1 hW1 hS1
noncomputable def eX1_said (τ : HP) (o_ : Nat) (a0 : Int32) (a1 : Int32) : Option ((Int32 × HP) ⊕ (Nat × Nat × HP)) :=
  wt_ck (hcl τ o_ = some 0) <| wt_bd (eX1_run τ o_ a0) fun w2 => wt_rs w2 (fun o4 => wt_ck (hcl o4.2 o_ = some 0) <| wt_bd (eX1_run o4.2 o_ a1) fun w6 => wt_rs w6 (fun o8 => wt_bd (eX1_worthOf o8.2 o4.1 o8.1 (-1 : Int32)) fun w9 => if w9.1 < (1000000 : Int32) then (if w9.1 < (1000 : Int32) then (if w9.1 < (10 : Int32) then (some (.inl ((0 : Int32), w9.2))) else (some (.inl ((1 : Int32), w9.2)))) else (some (.inl ((2 : Int32), w9.2)))) else (some (.inl ((3 : Int32), w9.2)))) (fun x_ => some (.inr x_))) (fun x_ => some (.inr x_))
set_option maxHeartbeats 4000000 in
theorem wX1_said (l : Launch) (hfl : l.stackTraces = false) {G : HG} {A : Nat → Prop} {τ : HP} {o_ : Nat} {a0 : Int32} {a1 : Int32} {out_ : (Int32 × HP) ⊕ (Nat × Nat × HP)} (hd : eX1_said τ o_ a0 a1 = some out_) : vx_Met l yX1_said (ws_ yX1_said cX1_said 6 (some .int)) ({ frames := 11, cells := 124, slots := 4926, locals := 252 }) (hPc G A τ [.ref o_, .int a0, .int a1]) (hXi G A (fun r u => Sum.inl (r, u) = out_)) (hXX G A out_) 124 4926 A := by
  refine vx_ofW (cc := cX1_said) (maxL := 6) (ret := (some .int)) (by decide) rfl ?_
  intro p_ e_ s_ m_ args_ below_ meth_ c_ s₁_ B hml hno hv
  obtain ⟨rfl, hW, hC⟩ := hv
  have hx := B.exec
  have hb := B.bytes
  have hr := B.returns
  have hts := atoms_spec (ws := (ws_ yX1_said cX1_said 6 (some .int))) B.pre
  have hts : ∀ w ∈ lw_all, w.before _ s_ = true := fun w h => hts w (List.mem_cons_of_mem _ h)
  have hown : s_.vm.findClass RX1 = some m_.cls := findClass_of_methodNamed B.named
  have hlocks := B.notSynchronized
  have hK := hC.1
  have hT := hC.2.1
  have hL := hC.2.2.1
  have hZ := hC.2.2.2.2.1
  have hA := hC.2.2.2.2.2
  have hS : va_S A s_.heap s_.heap [] := va_S.rf
  have hl := lv_entry ([.ref o_, .int a0, .int a1]) (n := 6) (Nat.le_of_ble_eq_true rfl)
  rw [lg_entry_eq]
  generalize (lg_sl ([.ref o_, .int a0, .int a1]) ++ List.replicate (6 - (lg_sl ([.ref o_, .int a0, .int a1])).length) Slot.unset).toArray = ls at hl ⊢
  have hl : lv_has ls 6 [(0, .ref o_), (1, .int a0), (2, .int a1)] := hl
  unfold eX1_said at hd
  refine lv_aload_n (pc := 0) hx hb dX1_said_0 rfl (lv_at hl 0 rfl) ?_
  refine lv_iload_n (pc := 1) hx hb dX1_said_1 rfl (lv_at hl 1 rfl) ?_
  obtain ⟨h1, hd⟩ := wt_ck_o hd
  obtain ⟨w2, hc3, hd⟩ := wt_bd_o hd
  refine kX1_run (pc := 2) hfl hx hb hml hown hts hC hW hS h1 hc3 hl.1 (Nat.le_of_ble_eq_true rfl) ⟨Nat.le_of_ble_eq_true rfl, Nat.le_of_ble_eq_true rfl⟩ ⟨(Nat.le_of_ble_eq_true rfl), (Nat.le_of_ble_eq_true rfl)⟩ q1003 dX1_said_2 (fun x_ hx_ E_ ce_ q9_ H locs hXB hS hce hvn hfc => ?_) (fun o4 ho_ H locs hW hS => ?_)
  · have hd := wt_rs_r hx_ hd
    exact hx_out (fun z hz => (hno z hz).elim) hlocks hce hvn hfc (Option.some.inj hd) hXB hS (Nat.le_of_ble_eq_true rfl) (Nat.le_of_ble_eq_true rfl)
  · have hd := wt_rs_l ho_ hd
    refine lv_astore_n (pc := 5) (lv' := [(3, .ref o4.1), (0, .ref o_), (1, .int a0), (2, .int a1)]) hx hb dX1_said_5 rfl hl (by decide) rfl (fun ls hl => ?_)
    refine lv_aload_n (pc := 6) hx hb dX1_said_6 rfl (lv_at hl 1 rfl) ?_
    refine lv_iload_n (pc := 7) hx hb dX1_said_7 rfl (lv_at hl 3 rfl) ?_
    obtain ⟨h5, hd⟩ := wt_ck_o hd
    obtain ⟨w6, hc7, hd⟩ := wt_bd_o hd
    refine kX1_run (pc := 8) hfl hx hb hml hown hts hC hW hS h5 hc7 hl.1 (Nat.le_of_ble_eq_true rfl) ⟨Nat.le_of_ble_eq_true rfl, Nat.le_of_ble_eq_true rfl⟩ ⟨(Nat.le_of_ble_eq_true rfl), (Nat.le_of_ble_eq_true rfl)⟩ q1003 dX1_said_8 (fun x_ hx_ E_ ce_ q9_ H locs hXB hS hce hvn hfc => ?_) (fun o8 ho_ H locs hW hS => ?_)
    · have hd := wt_rs_r hx_ hd
      exact hx_out (fun z hz => (hno z hz).elim) hlocks hce hvn hfc (Option.some.inj hd) hXB hS (Nat.le_of_ble_eq_true rfl) (Nat.le_of_ble_eq_true rfl)
    · have hd := wt_rs_l ho_ hd
      refine lv_astore (pc := 11) (lv' := [(4, .ref o8.1), (3, .ref o4.1), (0, .ref o_), (1, .int a0), (2, .int a1)]) hx hb dX1_said_11 hl (by decide) rfl (fun ls hl => ?_)
      refine lv_aload_n (pc := 13) hx hb dX1_said_13 rfl (lv_at hl 1 rfl) ?_
      refine lv_aload (pc := 14) hx hb dX1_said_14 (lv_at hl 0 rfl) ?_
      refine lv_iconst (pc := 16) (v := -1) hx hb dX1_said_16 (by decide) ?_
      obtain ⟨w9, hc10, hd⟩ := wt_bd_o hd
      refine kX1_worthOf (pc := 17) hx hb hml hown hts hC hW hS hc10 hl.1 (Nat.le_of_ble_eq_true rfl) ⟨Nat.le_of_ble_eq_true rfl, Nat.le_of_ble_eq_true rfl⟩ ⟨(Nat.le_of_ble_eq_true rfl), (Nat.le_of_ble_eq_true rfl)⟩ q1346 dX1_said_17 (fun H locs hW hS => ?_)
      refine lv_istore (pc := 20) (lv' := [(5, .int w9.1), (4, .ref o8.1), (3, .ref o4.1), (0, .ref o_), (1, .int a0), (2, .int a1)]) hx hb dX1_said_20 hl (by decide) rfl (fun ls hl => ?_)
      refine lv_iload (pc := 22) hx hb dX1_said_22 (lv_at hl 0 rfl) ?_
      refine lv_ldc (pc := 24) hx hb hown (hts _ q1353) dX1_said_24 ?_
      refine lv_icmp_lt (pc := 26) (tgt := 33) hx hb dX1_said_26 (by decide) (fun c11 => ?_) (fun c11 => ?_)
      · have hd := wt_it hd c11
        refine lv_iload (pc := 33) hx hb dX1_said_33 (lv_at hl 0 rfl) ?_
        refine lv_sipush (pc := 35) (v := 1000) hx hb dX1_said_35 (by decide) ?_
        refine lv_icmp_lt (pc := 38) (tgt := 45) hx hb dX1_said_38 (by decide) (fun c12 => ?_) (fun c12 => ?_)
        · have hd := wt_it hd c12
          refine lv_iload (pc := 45) hx hb dX1_said_45 (lv_at hl 0 rfl) ?_
          refine lv_bipush (pc := 47) (v := 10) hx hb dX1_said_47 (by decide) ?_
          refine lv_icmp_lt (pc := 49) (tgt := 56) hx hb dX1_said_49 (by decide) (fun c13 => ?_) (fun c13 => ?_)
          · have hd := wt_it hd c13
            refine lv_iconst (pc := 56) (v := 0) hx hb dX1_said_56 (by decide) ?_
            refine vx_ret ?_
            exact hx_iret hx hb hr rfl hlocks (Option.some.inj hd) hW hS dX1_said_57 (Nat.le_of_ble_eq_true rfl) (Nat.le_of_ble_eq_true rfl)
          · have hd := wt_if hd c13
            refine lv_iconst (pc := 52) (v := 1) hx hb dX1_said_52 (by decide) ?_
            refine lv_goto (pc := 53) (tgt := 57) hx hb dX1_said_53 (by decide) ?_
            refine vx_ret ?_
            exact hx_iret hx hb hr rfl hlocks (Option.some.inj hd) hW hS dX1_said_57 (Nat.le_of_ble_eq_true rfl) (Nat.le_of_ble_eq_true rfl)
        · have hd := wt_if hd c12
          refine lv_iconst (pc := 41) (v := 2) hx hb dX1_said_41 (by decide) ?_
          refine lv_goto (pc := 42) (tgt := 57) hx hb dX1_said_42 (by decide) ?_
          refine vx_ret ?_
          exact hx_iret hx hb hr rfl hlocks (Option.some.inj hd) hW hS dX1_said_57 (Nat.le_of_ble_eq_true rfl) (Nat.le_of_ble_eq_true rfl)
      · have hd := wt_if hd c11
        refine lv_iconst (pc := 29) (v := 3) hx hb dX1_said_29 (by decide) ?_
        refine lv_goto (pc := 30) (tgt := 57) hx hb dX1_said_30 (by decide) ?_
        refine vx_ret ?_
        exact hx_iret hx hb hr rfl hlocks (Option.some.inj hd) hW hS dX1_said_57 (Nat.le_of_ble_eq_true rfl) (Nat.le_of_ble_eq_true rfl)
theorem kX1_said {p : Program} {l : Launch} {e : Env} {R : Room} {s : State} {m : MethodId} {args : Array Value} {below : List Frame} {meth : Method} {c : Code} {H : Heap} {locs : List Loc} {cells slots : Nat} {Q : State → Prop} {cc : ByteArray} {pc : Nat} {ls : Array Slot} {rest : List Value} {nL : Nat} {own : String} {index : Nat} {G : HG} {A : Nat → Prop} {τ : HP} {o_ : Nat} {a0 : Int32} {a1 : Int32} {out_ : (Int32 × HP) ⊕ (Nat × Nat × HP)} (hfl : l.stackTraces = false) (hx : p.tables.exec = Jvm.exec) (hb : c.code = cc) (hml : c.maxLocals = nL) (hown : s.vm.findClass own = some m.cls) (hts : ∀ w ∈ lw_all, w.before args s = true) (hC : Hcx G A s) (hW : Hw G A τ H) (hS : va_S A s.heap H locs) (hrc : hcl τ o_ = some 0) (hd : eX1_said τ o_ a0 a1 = some out_) (hsz : ls.size = nL) (hrm : (rest.map fun v => v.category).sum ≤ 8) (hR : 12 ≤ R.frames ∧ 277 ≤ R.locals) (hcs : (cells + 124) ≤ R.cells ∧ (slots + 4926) ≤ R.slots) (hlk : Cond.methodLink own index yX1_said ∈ lw_all) (hdg : decode cc pc = .ok (.invokevirtual index, 3)) (kx : ∀ x_ : Nat × Nat × HP, Sum.inr x_ = out_ → ∀ (E : String) (ce : Cell) (q9 : Addr) (H1 : Heap) (locs1 : List Loc), hXb G A E q9 x_ H1 → va_S A s.heap H1 locs1 → H1[q9]? = some ce → ce.vm = .none → s.vm.findClass E = some ce.cls → vx_W p l e R s m args below meth c H1 locs1 (cells + 124) (slots + 4926) Q (F0 m pc ls rest) q9) (kk : ∀ o_1 : Int32 × HP, Sum.inl o_1 = out_ → ∀ (H1 : Heap) (locs1 : List Loc), Hw G A o_1.2 H1 → va_S A s.heap H1 locs1 → W p l e R s m args below meth c H1 locs1 (cells + 124) (slots + 4926) Q (F0 m (pc + 3) ls (.int o_1.1 :: rest))) : W p l e R s m args below meth c H locs cells slots Q (F0 m pc ls (.int a1 :: .int a0 :: .ref o_ :: rest)) := by
  refine vx_calli (vx_runV (As := [.int a0, .int a1]) (rest := rest) ⟨hx, hb, hml, hown, hts⟩ (wX1_said l hfl hd) (cwV 2 hts (lw_V hlk q1518 q1519 q66 q1520) rfl rfl rfl (by decide +kernel) hR) (hr_preV hC hW hS hrc rfl rfl) rfl rfl hsz rfl (lv_room hrm) hdg hcs) hS (fun _ _ h => h) (fun _ h => h) (fun _ _ h => h) (fun E ce q9 u t H1 locs1 ht hvm hp hB hz hk hS1 hce hvn hfc => ?_) (fun r u t H1 locs1 ht hvm hp hB hz hk hS1 => ?_)
  · rw [ht] at hB
    exact kx u hp E ce q9 H1 locs1 hB hS1 hce hvn hfc
  · have hW1 : Hw G A u t.heap := hB
    rw [ht] at hW1
    exact kk (r, u) hp H1 locs1 hW1 hS1
