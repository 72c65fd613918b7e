/-! the model's methods, walked (by gen/walk.py): isLookedAt next isSign signs said image restore count -/
set_option maxRecDepth 100000
noncomputable def bX4_isLookedAt_1 (σ : MSt) (a0 : Int32) (a1 : Int32) (a2 : Int32) (v1 : Int32) : Option ((Int32) ⊕ ((Unit) ⊕ (Int32))) :=
  if (σ.1 28) ≤ v1 then (some (.inr (.inl ()))) else (wt_ck (vp_in v1 8) <| wt_ck (vp_in (0 : Int32) 4) <| if (σ.2.2 32 (v1.toNatClampNeg) (0 : Int32).toNatClampNeg) = a0 then (wt_ck (vp_in v1 8) <| wt_ck (vp_in (1 : Int32) 4) <| if (σ.2.2 32 (v1.toNatClampNeg) (1 : Int32).toNatClampNeg) = a1 then (wt_bd (dX4_alikeOf σ a2) fun w20 => wt_ck (vp_in v1 8) <| wt_ck (vp_in (2 : Int32) 4) <| if ((w20 >>> ((σ.2.2 32 (v1.toNatClampNeg) (2 : Int32).toNatClampNeg) &&& 31)) &&& (1 : Int32)) = (1 : Int32) then (some (.inr (.inr (1 : Int32)))) else (wt_lt (v1 + (1 : Int32)) fun n25 => some (.inl n25))) else (wt_lt (v1 + (1 : Int32)) fun n19 => some (.inl n19))) else (wt_lt (v1 + (1 : Int32)) fun n15 => some (.inl n15)))
noncomputable def dX4_isLookedAt (σ : MSt) (a0 : Int32) (a1 : Int32) (a2 : Int32) : Option (Int32) :=
  wt_bd (wt_whC (bX4_isLookedAt_1 σ a0 a1 a2) (0 : Int32)) fun w2 => wt_rs w2 (fun w2 => some (0 : Int32)) (fun z_ => some z_)
set_option maxHeartbeats 4000000 in
theorem wX4_isLookedAt (l : Launch) {X : MPar} {lo hi : Nat} (hJ : mJ X lo hi) {σ : MSt} {a0 : Int32} {a1 : Int32} {a2 : Int32} {out_ : Int32} (hd : dX4_isLookedAt σ a0 a1 a2 = some out_) : Met l yX4_isLookedAt (ws_ yX4_isLookedAt cX4_isLookedAt 5 (some .boolean)) ({ frames := 1, cells := 0, slots := 0, locals := 24 }) (mP X σ [.ref X.1.1, .int a0, .int a1, .int a2]) (mQi X out_ σ (mA lo hi)) 0 0 (mA lo hi) := by
  refine Met.ofW (cc := cX4_isLookedAt) (maxL := 5) (ret := (some .boolean)) (by decide) rfl ?_
  intro p_ e_ s_ m_ args_ below_ meth_ c_ s₁_ B hml hv
  obtain ⟨rfl, hW, hK⟩ := hv
  have hx := B.exec
  have hb := B.bytes
  have hr := B.returns
  have hts := atoms_spec (ws := (ws_ yX4_isLookedAt cX4_isLookedAt 5 (some .boolean))) B.pre
  have hts : ∀ w ∈ lw_all, w.before _ s_ = true := fun w h => hts w (List.mem_cons_of_mem _ h)
  have hown : s_.vm.findClass RX4 = some m_.cls := findClass_of_methodNamed B.named
  have hlocks := B.notSynchronized
  have hS : va_S (mA lo hi) s_.heap s_.heap [] := va_S.rf
  have hl := lv_entry ([.ref X.1.1, .int a0, .int a1, .int a2]) (n := 5) (Nat.le_of_ble_eq_true rfl)
  rw [lg_entry_eq]
  generalize (lg_sl ([.ref X.1.1, .int a0, .int a1, .int a2]) ++ List.replicate (5 - (lg_sl ([.ref X.1.1, .int a0, .int a1, .int a2])).length) Slot.unset).toArray = ls at hl ⊢
  have hl : lv_has ls 5 [(0, .ref X.1.1), (1, .int a0), (2, .int a1), (3, .int a2)] := hl
  unfold dX4_isLookedAt at hd
  refine lv_iconst (pc := 0) (v := 0) hx hb dX4_isLookedAt_0 (by decide) ?_
  refine lv_istore (pc := 1) (lv' := [(4, .int (0 : Int32)), (0, .ref X.1.1), (1, .int a0), (2, .int a1), (3, .int a2)]) hx hb dX4_isLookedAt_1 hl (by decide) rfl (fun ls hl => ?_)
  obtain ⟨w2, hL3, hq4⟩ := wt_bd_o hd
  have hX5 : ∀ w2_ : Unit, (Sum.inl w2_ : (Unit) ⊕ _) = w2 → ∀ (H : Heap) (locs : List Loc) (ls : Array Slot), mW X σ H → va_S (mA lo hi) s_.heap H locs → lv_has ls 5 [] → W p_ l e_ (headSpec (ws_ yX4_isLookedAt cX4_isLookedAt 5 (some .boolean)) ({ frames := 1, cells := 0, slots := 0, locals := 24 })).room s_ m_ ([.ref X.1.1, .int a0, .int a1, .int a2] : List Value).toArray below_ meth_ c_ H locs 0 0 (MQ below_ (mQi X out_ σ (mA lo hi)) ([.ref X.1.1, .int a0, .int a1, .int a2] : List Value).toArray s_ 0 0 (mA lo hi)) (F0 m_ 67 ls []) := by
    intro w2_ hw_
    have hd := wt_rs_l hw_ hq4
    clear hL3 hq4
    intro H locs ls hW hS hl
    refine lv_iconst (pc := 67) (v := 0) hx hb dX4_isLookedAt_67 (by decide) ?_
    exact mr_iret hx hb hr rfl hlocks (Option.some.inj hd) rfl hW hK hS dX4_isLookedAt_68
  have hI10 : ∀ (k9 : Nat) (v1 : Int32), wt_wh (bX4_isLookedAt_1 σ a0 a1 a2) k9 v1 = some w2 → ∀ (H : Heap) (locs : List Loc) (ls : Array Slot), mW X σ H → va_S (mA lo hi) s_.heap H locs → lv_has ls 5 [(0, .ref X.1.1), (1, .int a0), (2, .int a1), (3, .int a2), (4, .int v1)] → W p_ l e_ (headSpec (ws_ yX4_isLookedAt cX4_isLookedAt 5 (some .boolean)) ({ frames := 1, cells := 0, slots := 0, locals := 24 })).room s_ m_ ([.ref X.1.1, .int a0, .int a1, .int a2] : List Value).toArray below_ meth_ c_ H locs 0 0 (MQ below_ (mQi X out_ σ (mA lo hi)) ([.ref X.1.1, .int a0, .int a1, .int a2] : List Value).toArray s_ 0 0 (mA lo hi)) (F0 m_ 3 ls []) := by
    intro k9
    induction k9 with
    | zero => intro v1 hd; exact absurd hd wt_wh_z
    | succ k9 ih7 =>
      intro v1 hd
      intro H locs ls hW hS hl
      obtain ⟨r8, hd, hk6⟩ := wt_wh_o hd
      unfold bX4_isLookedAt_1 at hd
      refine lv_iload (pc := 3) hx hb dX4_isLookedAt_3 (lv_at hl 4 rfl) ?_
      refine lv_aload_n (pc := 5) hx hb dX4_isLookedAt_5 rfl (lv_at hl 0 rfl) ?_
      refine mr_get (pc := 6) (k := 28) (v := .int ((σ.1 28))) hx hb hts hown hK hW (by decide) rfl q1557 dX4_isLookedAt_6 ?_
      refine lv_icmp_ge (pc := 9) (tgt := 67) hx hb dX4_isLookedAt_9 (by decide) (fun c11 => ?_) (fun c11 => ?_)
      · have hd := wt_it hd c11
        exact hX5 () (wt_exit hd hk6) _ _ _ hW hS (lv_sub hl [] rfl)
      · have hd := wt_if hd c11
        refine lv_aload_n (pc := 12) hx hb dX4_isLookedAt_12 rfl (lv_at hl 0 rfl) ?_
        refine mr_get (pc := 13) (k := 32) (v := .ref (X.1.2.1 32)) hx hb hts hown hK hW (by decide) rfl q1561 dX4_isLookedAt_13 ?_
        refine lv_iload (pc := 16) hx hb dX4_isLookedAt_16 (lv_at hl 4 rfl) ?_
        obtain ⟨h12, hd⟩ := wt_ck_o hd
        refine mr_row (pc := 18) (k := 32) hx hb hK hW rfl h12 dX4_isLookedAt_18 ?_
        refine lv_iconst (pc := 19) (v := 0) hx hb dX4_isLookedAt_19 (by decide) ?_
        obtain ⟨h13, hd⟩ := wt_ck_o hd
        refine mr_gld (pc := 20) (k := 32) (i := (v1.toNatClampNeg)) hx hb hK hW (vp_lt h12) rfl h13 dX4_isLookedAt_20 ?_
        refine lv_iload_n (pc := 21) hx hb dX4_isLookedAt_21 rfl (lv_at hl 1 rfl) ?_
        refine lv_icmp_ne (pc := 22) (tgt := 61) hx hb dX4_isLookedAt_22 (by decide) (fun c14 => ?_) (fun c14 => ?_)
        · have hd := wt_if hd c14
          obtain ⟨n15, en15, hd⟩ := wt_lt_o hd
          refine lv_iinc (pc := 61) (k := 4) (v := n15) (lv' := [(4, .int n15), (0, .ref X.1.1), (1, .int a0), (2, .int a1), (3, .int a2)]) hx hb dX4_isLookedAt_61 hl rfl en15.symm (by decide) rfl (fun ls hl => ?_)
          refine lv_goto (pc := 64) (tgt := 3) hx hb dX4_isLookedAt_64 (by decide) ?_
          exact ih7 _ (wt_again hd hk6) _ _ _ hW hS (lv_sub hl [1, 2, 3, 4, 0] rfl)
        · have hd := wt_it hd c14
          refine lv_aload_n (pc := 25) hx hb dX4_isLookedAt_25 rfl (lv_at hl 0 rfl) ?_
          refine mr_get (pc := 26) (k := 32) (v := .ref (X.1.2.1 32)) hx hb hts hown hK hW (by decide) rfl q1561 dX4_isLookedAt_26 ?_
          refine lv_iload (pc := 29) hx hb dX4_isLookedAt_29 (lv_at hl 4 rfl) ?_
          obtain ⟨h16, hd⟩ := wt_ck_o hd
          refine mr_row (pc := 31) (k := 32) hx hb hK hW rfl h16 dX4_isLookedAt_31 ?_
          refine lv_iconst (pc := 32) (v := 1) hx hb dX4_isLookedAt_32 (by decide) ?_
          obtain ⟨h17, hd⟩ := wt_ck_o hd
          refine mr_gld (pc := 33) (k := 32) (i := (v1.toNatClampNeg)) hx hb hK hW (vp_lt h16) rfl h17 dX4_isLookedAt_33 ?_
          refine lv_iload_n (pc := 34) hx hb dX4_isLookedAt_34 rfl (lv_at hl 2 rfl) ?_
          refine lv_icmp_ne (pc := 35) (tgt := 61) hx hb dX4_isLookedAt_35 (by decide) (fun c18 => ?_) (fun c18 => ?_)
          · have hd := wt_if hd c18
            obtain ⟨n19, en19, hd⟩ := wt_lt_o hd
            refine lv_iinc (pc := 61) (k := 4) (v := n19) (lv' := [(4, .int n19), (0, .ref X.1.1), (1, .int a0), (2, .int a1), (3, .int a2)]) hx hb dX4_isLookedAt_61 hl rfl en19.symm (by decide) rfl (fun ls hl => ?_)
            refine lv_goto (pc := 64) (tgt := 3) hx hb dX4_isLookedAt_64 (by decide) ?_
            exact ih7 _ (wt_again hd hk6) _ _ _ hW hS (lv_sub hl [1, 2, 3, 4, 0] rfl)
          · have hd := wt_it hd c18
            refine lv_aload_n (pc := 38) hx hb dX4_isLookedAt_38 rfl (lv_at hl 0 rfl) ?_
            refine lv_iload_n (pc := 39) hx hb dX4_isLookedAt_39 rfl (lv_at hl 3 rfl) ?_
            obtain ⟨w20, hc21, hd⟩ := wt_bd_o hd
            refine kX4_alikeOf (pc := 40) hx hb hml hown hts hK hJ hW hS hc21 hl.1 (Nat.le_of_ble_eq_true rfl) ⟨Nat.le_of_ble_eq_true rfl, Nat.le_of_ble_eq_true rfl⟩ ⟨Nat.le_refl _, Nat.le_refl _⟩ dX4_isLookedAt_40 (fun H locs hW hS => ?_)
            refine lv_aload_n (pc := 43) hx hb dX4_isLookedAt_43 rfl (lv_at hl 0 rfl) ?_
            refine mr_get (pc := 44) (k := 32) (v := .ref (X.1.2.1 32)) hx hb hts hown hK hW (by decide) rfl q1561 dX4_isLookedAt_44 ?_
            refine lv_iload (pc := 47) hx hb dX4_isLookedAt_47 (lv_at hl 4 rfl) ?_
            obtain ⟨h22, hd⟩ := wt_ck_o hd
            refine mr_row (pc := 49) (k := 32) hx hb hK hW rfl h22 dX4_isLookedAt_49 ?_
            refine lv_iconst (pc := 50) (v := 2) hx hb dX4_isLookedAt_50 (by decide) ?_
            obtain ⟨h23, hd⟩ := wt_ck_o hd
            refine mr_gld (pc := 51) (k := 32) (i := (v1.toNatClampNeg)) hx hb hK hW (vp_lt h22) rfl h23 dX4_isLookedAt_51 ?_
            refine lv_ishr (pc := 52) hx hb dX4_isLookedAt_52 ?_
            refine lv_iconst (pc := 53) (v := 1) hx hb dX4_isLookedAt_53 (by decide) ?_
            refine lv_iand (pc := 54) hx hb dX4_isLookedAt_54 ?_
            refine lv_iconst (pc := 55) (v := 1) hx hb dX4_isLookedAt_55 (by decide) ?_
            refine lv_icmp_ne (pc := 56) (tgt := 61) hx hb dX4_isLookedAt_56 (by decide) (fun c24 => ?_) (fun c24 => ?_)
            · have hd := wt_if hd c24
              obtain ⟨n25, en25, hd⟩ := wt_lt_o hd
              refine lv_iinc (pc := 61) (k := 4) (v := n25) (lv' := [(4, .int n25), (0, .ref X.1.1), (1, .int a0), (2, .int a1), (3, .int a2)]) hx hb dX4_isLookedAt_61 hl rfl en25.symm (by decide) rfl (fun ls hl => ?_)
              refine lv_goto (pc := 64) (tgt := 3) hx hb dX4_isLookedAt_64 (by decide) ?_
              exact ih7 _ (wt_again hd hk6) _ _ _ hW hS (lv_sub hl [1, 2, 3, 4, 0] rfl)
            · have hd := wt_it hd c24
              refine lv_iconst (pc := 59) (v := 1) hx hb dX4_isLookedAt_59 (by decide) ?_
              have hd := wt_rs_r (wt_exit hd hk6) hq4
              exact mr_iret hx hb hr rfl hlocks (Option.some.inj hd) rfl hW hK hS dX4_isLookedAt_60
  obtain ⟨k9, hL3⟩ := wt_whC_o hL3
  exact hI10 k9 _ hL3 _ _ _ hW hS (lv_sub hl [1, 2, 3, 4, 0] rfl)
theorem kX4_isLookedAt {p : Program} {l : Launch} {e : Env} {R : Room} {s : State} {m : MethodId} {args : Array Value} {below : List Frame} {meth : Method} {c : Code} {H : Heap} {locs : List Loc} {cells slots : Nat} {Q : State → Prop} {cc : ByteArray} {pc : Nat} {ls : Array Slot} {rest : List Value} {H0 : Heap} {nL : Nat} {X : MPar} {lo hi : Nat} {σ : MSt} {a0 : Int32} {a1 : Int32} {a2 : Int32} {out_ : Int32} (hx : p.tables.exec = Jvm.exec) (hb : c.code = cc) (hml : c.maxLocals = nL) (hown : s.vm.findClass RX4 = some m.cls) (hts : ∀ w ∈ lw_all, w.before args s = true) (hK : mK X s) (hJ : mJ X lo hi) (hW : mW X σ H) (hS : va_S (mA lo hi) H0 H locs) (hd : dX4_isLookedAt σ a0 a1 a2 = some out_) (hsz : ls.size = nL) (hrm : (rest.map fun v => v.category).sum ≤ 8) (hR : 2 ≤ R.frames ∧ 48 ≤ R.locals) (hcs : cells ≤ R.cells ∧ slots ≤ R.slots) (hdg : decode cc pc = .ok (.invokevirtual 311, 3)) (kk : ∀ (H1 : Heap) (locs1 : List Loc), mW X σ H1 → va_S (mA lo hi) H0 H1 locs1 → W p l e R s m args below meth c H1 locs1 cells slots Q (F0 m (pc + 3) ls (.int out_ :: rest))) : W p l e R s m args below meth c H locs cells slots Q (F0 m pc ls (.int a2 :: .int a1 :: .int a0 :: .ref X.1.1 :: rest)) := by
  refine va_calli (va_runV (As := [.int a0, .int a1, .int a2]) (rest := rest) ⟨hx, hb, hml, hown, hts⟩ (wX4_isLookedAt l hJ hd) (cwV 3 hts (lw_V q1980 q1982 qs63 q88 q1983) rfl rfl rfl (by decide +kernel) hR) (mr_pre hK hW) rfl rfl hsz rfl (lv_room hrm) hdg hcs) hS (fun _ _ h => h) (fun _ h => h) (fun r u t H1 locs1 ht hvm hp hB hz hk hS1 => ?_)
  have hp : r = out_ := hp
  subst hp
  have hW1 : mW X σ t.heap := hB.1
  rw [ht] at hW1
  exact kk H1 locs1 hW1 hS1
noncomputable def bX4_next_2 (a0 : Int32) (a1 : Int32) (a2 : Int32) (v18 : Int32 × Int32 × Int32 × MSt) (v29 : Int32 × Int32 × Int32 × MSt) : Option ((Int32 × Int32 × Int32 × MSt) ⊕ (Int32 × Int32 × MSt)) :=
  if (10 : Int32) ≤ v29.2.2.1 then (some (.inr (v29.1, v29.2.1, v29.2.2.2))) else (wt_bd (dX4_isLookedAt v29.2.2.2 v18.2.2.1 a2 v29.2.2.1) fun w40 => if w40 = 0 then (wt_bd (dX4_runs v29.2.2.2 a0 a2) fun w43 => wt_bd (dX4_pileAt w43 v18.2.2.1 v29.2.2.1) fun w45 => wt_bd (dX4_runs w43 a1 a2) fun w47 => wt_bd (dX4_pileAt w47 v18.2.2.1 v29.2.2.1) fun w49 => wt_lt ((w45 - w49)) fun n51 => wt_bd (if 0 ≤ n51 then (some (n51)) else (some (-n51))) fun w52 => if v29.2.1 < w52 then (wt_lt (((((100 : Int32) * w52) + ((10 : Int32) * v18.2.2.1)) + v29.2.2.1)) fun n58 => wt_lt (v29.2.2.1 + (1 : Int32)) fun n59 => some (.inl (n58, w52, n59, w47))) else (wt_lt (v29.2.2.1 + (1 : Int32)) fun n60 => some (.inl (v29.1, v29.2.1, n60, w47)))) else (wt_lt (v29.2.2.1 + (1 : Int32)) fun n61 => some (.inl (v29.1, v29.2.1, n61, v29.2.2.2))))
noncomputable def bX4_next_1 (a0 : Int32) (a1 : Int32) (a2 : Int32) (v18 : Int32 × Int32 × Int32 × MSt) : Option ((Int32 × Int32 × Int32 × MSt) ⊕ (Int32 × MSt)) :=
  if (10 : Int32) ≤ v18.2.2.1 then (some (.inr (v18.1, v18.2.2.2))) else (wt_bd (wt_whC (bX4_next_2 a0 a1 a2 v18) (v18.1, v18.2.1, (0 : Int32), v18.2.2.2)) fun w30 => wt_lt (v18.2.2.1 + (1 : Int32)) fun n62 => some (.inl (w30.1, w30.2.1, n62, w30.2.2)))
noncomputable def bX4_next_4 (a0 : Int32) (a1 : Int32) (a2 : Int32) (v69 : Int32 × Int32 × Int32 × MSt) (v80 : Int32 × Int32 × Int32 × MSt) : Option ((Int32 × Int32 × Int32 × MSt) ⊕ (Int32 × Int32 × MSt)) :=
  if (10 : Int32) ≤ v80.2.2.1 then (some (.inr (v80.1, v80.2.1, v80.2.2.2))) else (wt_bd (dX4_isLookedAt v80.2.2.2 v69.2.2.1 a2 v80.2.2.1) fun w91 => if w91 = 0 then (wt_bd (dX4_runs v80.2.2.2 a0 a2) fun w94 => wt_bd (dX4_pileAt w94 v69.2.2.1 v80.2.2.1) fun w96 => wt_bd (dX4_runs w94 a1 a2) fun w98 => wt_bd (dX4_pileAt w98 v69.2.2.1 v80.2.2.1) fun w100 => wt_lt ((w96 - w100)) fun n102 => wt_bd (if 0 ≤ n102 then (some (n102)) else (some (-n102))) fun w103 => if v80.2.1 < w103 then (wt_lt (((((100 : Int32) * w103) + ((10 : Int32) * v69.2.2.1)) + v80.2.2.1)) fun n109 => wt_lt (v80.2.2.1 + (1 : Int32)) fun n110 => some (.inl (n109, w103, n110, w98))) else (wt_lt (v80.2.2.1 + (1 : Int32)) fun n111 => some (.inl (v80.1, v80.2.1, n111, w98)))) else (wt_lt (v80.2.2.1 + (1 : Int32)) fun n112 => some (.inl (v80.1, v80.2.1, n112, v80.2.2.2))))
noncomputable def bX4_next_3 (a0 : Int32) (a1 : Int32) (a2 : Int32) (v69 : Int32 × Int32 × Int32 × MSt) : Option ((Int32 × Int32 × Int32 × MSt) ⊕ (Int32 × MSt)) :=
  if (10 : Int32) ≤ v69.2.2.1 then (some (.inr (v69.1, v69.2.2.2))) else (wt_bd (wt_whC (bX4_next_4 a0 a1 a2 v69) (v69.1, v69.2.1, (0 : Int32), v69.2.2.2)) fun w81 => wt_lt (v69.2.2.1 + (1 : Int32)) fun n113 => some (.inl (w81.1, w81.2.1, n113, w81.2.2)))
noncomputable def dX4_next (σ : MSt) (a0 : Int32) (a1 : Int32) (a2 : Int32) : Option (Int32 × MSt) :=
  wt_lt (m_sF σ 0 (0 : Int32)) fun σ1 => wt_bd (dX4_isStory σ1 a0) fun w2 => wt_bd (if w2 = 0 then (some (.inl ())) else (wt_bd (dX4_isStory σ1 a1) fun w9 => if w9 = 0 then (some (.inl ())) else (wt_bd (dX4_bad σ1 (0 : Int32) (1 : Int32)) fun w12 => if w12.1 = 0 then (wt_bd (dX4_badPlace w12.2 (0 : Int32) (0 : Int32) a2 (2 : Int32)) fun w15 => if w15.1 = 0 then (wt_bd (wt_whC (bX4_next_1 a0 a1 a2) ((-1 : Int32), (0 : Int32), (0 : Int32), w15.2)) fun w19 => some (.inr (w19.1, w19.2))) else (some (.inr ((0 : Int32), w15.2)))) else (some (.inr ((0 : Int32), w12.2)))))) fun w4 => wt_rs w4 (fun w4 => wt_bd (dX4_bad σ1 (1 : Int32) (1 : Int32)) fun w63 => if w63.1 = 0 then (wt_bd (dX4_badPlace w63.2 (0 : Int32) (0 : Int32) a2 (2 : Int32)) fun w66 => if w66.1 = 0 then (wt_bd (wt_whC (bX4_next_3 a0 a1 a2) ((-1 : Int32), (0 : Int32), (0 : Int32), w66.2)) fun w70 => some (w70.1, w70.2)) else (some ((0 : Int32), w66.2))) else (some ((0 : Int32), w63.2))) (fun z_ => some z_)
set_option maxHeartbeats 4000000 in
theorem wX4_next (l : Launch) {X : MPar} {lo hi : Nat} (hJ : mJ X lo hi) {σ : MSt} {a0 : Int32} {a1 : Int32} {a2 : Int32} {out_ : Int32 × MSt} (hd : dX4_next σ a0 a1 a2 = some out_) : Met l yX4_next (ws_ yX4_next cX4_next 10 (some .int)) ({ frames := 4, cells := 0, slots := 0, locals := 98 }) (mP X σ [.ref X.1.1, .int a0, .int a1, .int a2]) (mQi X out_.1 out_.2 (mA lo hi)) 0 0 (mA lo hi) := by
  refine Met.ofW (cc := cX4_next) (maxL := 10) (ret := (some .int)) (by decide) rfl ?_
  intro p_ e_ s_ m_ args_ below_ meth_ c_ s₁_ B hml hv
  obtain ⟨rfl, hW, hK⟩ := hv
  have hx := B.exec
  have hb := B.bytes
  have hr := B.returns
  have hts := atoms_spec (ws := (ws_ yX4_next cX4_next 10 (some .int))) B.pre
  have hts : ∀ w ∈ lw_all, w.before _ s_ = true := fun w h => hts w (List.mem_cons_of_mem _ h)
  have hown : s_.vm.findClass RX4 = some m_.cls := findClass_of_methodNamed B.named
  have hlocks := B.notSynchronized
  have hS : va_S (mA lo hi) s_.heap s_.heap [] := va_S.rf
  have hl := lv_entry ([.ref X.1.1, .int a0, .int a1, .int a2]) (n := 10) (Nat.le_of_ble_eq_true rfl)
  rw [lg_entry_eq]
  generalize (lg_sl ([.ref X.1.1, .int a0, .int a1, .int a2]) ++ List.replicate (10 - (lg_sl ([.ref X.1.1, .int a0, .int a1, .int a2])).length) Slot.unset).toArray = ls at hl ⊢
  have hl : lv_has ls 10 [(0, .ref X.1.1), (1, .int a0), (2, .int a1), (3, .int a2)] := hl
  unfold dX4_next at hd
  refine lv_aload_n (pc := 0) hx hb dX4_next_0 rfl (lv_at hl 0 rfl) ?_
  refine lv_iconst (pc := 1) (v := 0) hx hb dX4_next_1 (by decide) ?_
  obtain ⟨σ1, eσ1, hd⟩ := wt_lt_o hd
  refine mr_put (pc := 2) (k := 0) hx hb hts hown hK hW hJ hS (by decide) rfl eσ1 q1529 dX4_next_2 (fun H locs hW hS => ?_)
  refine lv_aload_n (pc := 5) hx hb dX4_next_5 rfl (lv_at hl 0 rfl) ?_
  refine lv_aload_n (pc := 6) hx hb dX4_next_6 rfl (lv_at hl 0 rfl) ?_
  refine lv_iload_n (pc := 7) hx hb dX4_next_7 rfl (lv_at hl 1 rfl) ?_
  obtain ⟨w2, hc3, hd⟩ := wt_bd_o hd
  refine kX4_isStory (pc := 8) hx hb hml hown hts hK hJ hW hS hc3 hl.1 (Nat.le_of_ble_eq_true rfl) ⟨Nat.le_of_ble_eq_true rfl, Nat.le_of_ble_eq_true rfl⟩ ⟨Nat.le_refl _, Nat.le_refl _⟩ dX4_next_8 (fun H locs hW hS => ?_)
  obtain ⟨w4, hj5, hq6⟩ := wt_bd_o hd
  have hX7 : ∀ w4_ : Unit, (Sum.inl w4_ : Unit ⊕ _) = w4 → ∀ (H : Heap) (locs : List Loc) (ls : Array Slot), mW X σ1 H → va_S (mA lo hi) s_.heap H locs → lv_has ls 10 [(0, .ref X.1.1), (1, .int a0), (2, .int a1), (3, .int a2)] → W p_ l e_ (headSpec (ws_ yX4_next cX4_next 10 (some .int)) ({ frames := 4, cells := 0, slots := 0, locals := 98 })).room s_ m_ ([.ref X.1.1, .int a0, .int a1, .int a2] : List Value).toArray below_ meth_ c_ H locs 0 0 (MQ below_ (mQi X out_.1 out_.2 (mA lo hi)) ([.ref X.1.1, .int a0, .int a1, .int a2] : List Value).toArray s_ 0 0 (mA lo hi)) (F0 m_ 22 ls [.ref X.1.1]) := by
    intro w4_ hw_
    have hd := wt_rs_l hw_ hq6
    clear hj5 hq6
    intro H locs ls hW hS hl
    refine lv_iconst (pc := 22) (v := 1) hx hb dX4_next_22 (by decide) ?_
    refine lv_goto (pc := 23) (tgt := 27) hx hb dX4_next_23 (by decide) ?_
    refine lv_iconst (pc := 27) (v := 1) hx hb dX4_next_27 (by decide) ?_
    obtain ⟨w63, hc64, hd⟩ := wt_bd_o hd
    refine kX4_bad (pc := 28) hx hb hml hown hts hK hJ hW hS hc64 hl.1 (Nat.le_of_ble_eq_true rfl) ⟨Nat.le_of_ble_eq_true rfl, Nat.le_of_ble_eq_true rfl⟩ ⟨Nat.le_refl _, Nat.le_refl _⟩ dX4_next_28 (fun H locs hW hS => ?_)
    refine lv_if_ne (pc := 31) (tgt := 45) hx hb dX4_next_31 (by decide) (fun c65 => ?_) (fun c65 => ?_)
    · have hd := wt_if hd c65
      refine lv_iconst (pc := 45) (v := 0) hx hb dX4_next_45 (by decide) ?_
      exact mr_iret hx hb hr rfl hlocks (wt_p1 hd) (wt_p2 hd) hW hK hS dX4_next_46
    · have hd := wt_it hd c65
      refine lv_aload_n (pc := 34) hx hb dX4_next_34 rfl (lv_at hl 0 rfl) ?_
      refine lv_iconst (pc := 35) (v := 0) hx hb dX4_next_35 (by decide) ?_
      refine lv_iconst (pc := 36) (v := 0) hx hb dX4_next_36 (by decide) ?_
      refine lv_iload_n (pc := 37) hx hb dX4_next_37 rfl (lv_at hl 3 rfl) ?_
      refine lv_iconst (pc := 38) (v := 2) hx hb dX4_next_38 (by decide) ?_
      obtain ⟨w66, hc67, hd⟩ := wt_bd_o hd
      refine kX4_badPlace (pc := 39) hx hb hml hown hts hK hJ hW hS hc67 hl.1 (Nat.le_of_ble_eq_true rfl) ⟨Nat.le_of_ble_eq_true rfl, Nat.le_of_ble_eq_true rfl⟩ ⟨Nat.le_refl _, Nat.le_refl _⟩ dX4_next_39 (fun H locs hW hS => ?_)
      refine lv_if_eq (pc := 42) (tgt := 47) hx hb dX4_next_42 (by decide) (fun c68 => ?_) (fun c68 => ?_)
      · have hd := wt_it hd c68
        refine lv_iconst (pc := 47) (v := -1) hx hb dX4_next_47 (by decide) ?_
        refine lv_istore (pc := 48) (lv' := [(4, .int (-1 : Int32)), (0, .ref X.1.1), (1, .int a0), (2, .int a1), (3, .int a2)]) hx hb dX4_next_48 hl (by decide) rfl (fun ls hl => ?_)
        refine lv_iconst (pc := 50) (v := 0) hx hb dX4_next_50 (by decide) ?_
        refine lv_istore (pc := 51) (lv' := [(5, .int (0 : Int32)), (4, .int (-1 : Int32)), (0, .ref X.1.1), (1, .int a0), (2, .int a1), (3, .int a2)]) hx hb dX4_next_51 hl (by decide) rfl (fun ls hl => ?_)
        refine lv_iconst (pc := 53) (v := 0) hx hb dX4_next_53 (by decide) ?_
        refine lv_istore (pc := 54) (lv' := [(6, .int (0 : Int32)), (5, .int (0 : Int32)), (4, .int (-1 : Int32)), (0, .ref X.1.1), (1, .int a0), (2, .int a1), (3, .int a2)]) hx hb dX4_next_54 hl (by decide) rfl (fun ls hl => ?_)
        obtain ⟨w70, hL71, hq72⟩ := wt_bd_o hd
        have hX73 : ∀ w70_ : Int32 × MSt, w70_ = w70 → ∀ (H : Heap) (locs : List Loc) (ls : Array Slot), mW X w70_.2 H → va_S (mA lo hi) s_.heap H locs → lv_has ls 10 [(4, .int w70_.1)] → W p_ l e_ (headSpec (ws_ yX4_next cX4_next 10 (some .int)) ({ frames := 4, cells := 0, slots := 0, locals := 98 })).room s_ m_ ([.ref X.1.1, .int a0, .int a1, .int a2] : List Value).toArray below_ meth_ c_ H locs 0 0 (MQ below_ (mQi X out_.1 out_.2 (mA lo hi)) ([.ref X.1.1, .int a0, .int a1, .int a2] : List Value).toArray s_ 0 0 (mA lo hi)) (F0 m_ 180 ls []) := by
          intro w70_ hw_
          have hd := hq72
          subst hw_
          clear hL71 hq72
          intro H locs ls hW hS hl
          refine lv_iload (pc := 180) hx hb dX4_next_180 (lv_at hl 0 rfl) ?_
          exact mr_iret hx hb hr rfl hlocks (wt_p1 hd) (wt_p2 hd) hW hK hS dX4_next_182
        have hI78 : ∀ (k77 : Nat) (v69 : Int32 × Int32 × Int32 × MSt), wt_wh (bX4_next_3 a0 a1 a2) k77 v69 = some w70 → ∀ (H : Heap) (locs : List Loc) (ls : Array Slot), mW X v69.2.2.2 H → va_S (mA lo hi) s_.heap H locs → lv_has ls 10 [(0, .ref X.1.1), (1, .int a0), (2, .int a1), (3, .int a2), (4, .int v69.1), (5, .int v69.2.1), (6, .int v69.2.2.1)] → W p_ l e_ (headSpec (ws_ yX4_next cX4_next 10 (some .int)) ({ frames := 4, cells := 0, slots := 0, locals := 98 })).room s_ m_ ([.ref X.1.1, .int a0, .int a1, .int a2] : List Value).toArray below_ meth_ c_ H locs 0 0 (MQ below_ (mQi X out_.1 out_.2 (mA lo hi)) ([.ref X.1.1, .int a0, .int a1, .int a2] : List Value).toArray s_ 0 0 (mA lo hi)) (F0 m_ 56 ls []) := by
          intro k77
          induction k77 with
          | zero => intro v69 hd; exact absurd hd wt_wh_z
          | succ k77 ih75 =>
            intro v69 hd
            intro H locs ls hW hS hl
            obtain ⟨r76, hd, hk74⟩ := wt_wh_o hd
            unfold bX4_next_3 at hd
            refine lv_iload (pc := 56) hx hb dX4_next_56 (lv_at hl 6 rfl) ?_
            refine lv_bipush (pc := 58) (v := 10) hx hb dX4_next_58 (by decide) ?_
            refine lv_icmp_ge (pc := 60) (tgt := 180) hx hb dX4_next_60 (by decide) (fun c79 => ?_) (fun c79 => ?_)
            · have hd := wt_it hd c79
              exact hX73 (v69.1, v69.2.2.2) (wt_exit hd hk74) _ _ _ hW hS (lv_sub hl [4] rfl)
            · have hd := wt_if hd c79
              refine lv_iconst (pc := 63) (v := 0) hx hb dX4_next_63 (by decide) ?_
              refine lv_istore (pc := 64) (lv' := [(7, .int (0 : Int32)), (0, .ref X.1.1), (1, .int a0), (2, .int a1), (3, .int a2), (4, .int v69.1), (5, .int v69.2.1), (6, .int v69.2.2.1)]) hx hb dX4_next_64 hl (by decide) rfl (fun ls hl => ?_)
              obtain ⟨w81, hL82, hq83⟩ := wt_bd_o hd
              have hX84 : ∀ w81_ : Int32 × Int32 × MSt, w81_ = w81 → ∀ (H : Heap) (locs : List Loc) (ls : Array Slot), mW X w81_.2.2 H → va_S (mA lo hi) s_.heap H locs → lv_has ls 10 [(0, .ref X.1.1), (1, .int a0), (2, .int a1), (3, .int a2), (4, .int w81_.1), (5, .int w81_.2.1), (6, .int v69.2.2.1)] → W p_ l e_ (headSpec (ws_ yX4_next cX4_next 10 (some .int)) ({ frames := 4, cells := 0, slots := 0, locals := 98 })).room s_ m_ ([.ref X.1.1, .int a0, .int a1, .int a2] : List Value).toArray below_ meth_ c_ H locs 0 0 (MQ below_ (mQi X out_.1 out_.2 (mA lo hi)) ([.ref X.1.1, .int a0, .int a1, .int a2] : List Value).toArray s_ 0 0 (mA lo hi)) (F0 m_ 174 ls []) := by
                intro w81_ hw_
                have hd := hq83
                subst hw_
                clear hL82 hq83
                intro H locs ls hW hS hl
                obtain ⟨n113, en113, hd⟩ := wt_lt_o hd
                refine lv_iinc (pc := 174) (k := 6) (v := n113) (lv' := [(6, .int n113), (0, .ref X.1.1), (1, .int a0), (2, .int a1), (3, .int a2), (4, .int w81_.1), (5, .int w81_.2.1)]) hx hb dX4_next_174 hl rfl en113.symm (by decide) rfl (fun ls hl => ?_)
                refine lv_goto (pc := 177) (tgt := 56) hx hb dX4_next_177 (by decide) ?_
                exact ih75 _ (wt_again hd hk74) _ _ _ hW hS (lv_sub hl [1, 2, 3, 4, 5, 6, 0] rfl)
              have hI89 : ∀ (k88 : Nat) (v80 : Int32 × Int32 × Int32 × MSt), wt_wh (bX4_next_4 a0 a1 a2 v69) k88 v80 = some w81 → ∀ (H : Heap) (locs : List Loc) (ls : Array Slot), mW X v80.2.2.2 H → va_S (mA lo hi) s_.heap H locs → lv_has ls 10 [(0, .ref X.1.1), (1, .int a0), (2, .int a1), (3, .int a2), (4, .int v80.1), (5, .int v80.2.1), (6, .int v69.2.2.1), (7, .int v80.2.2.1)] → W p_ l e_ (headSpec (ws_ yX4_next cX4_next 10 (some .int)) ({ frames := 4, cells := 0, slots := 0, locals := 98 })).room s_ m_ ([.ref X.1.1, .int a0, .int a1, .int a2] : List Value).toArray below_ meth_ c_ H locs 0 0 (MQ below_ (mQi X out_.1 out_.2 (mA lo hi)) ([.ref X.1.1, .int a0, .int a1, .int a2] : List Value).toArray s_ 0 0 (mA lo hi)) (F0 m_ 66 ls []) := by
                intro k88
                induction k88 with
                | zero => intro v80 hd; exact absurd hd wt_wh_z
                | succ k88 ih86 =>
                  intro v80 hd
                  intro H locs ls hW hS hl
                  obtain ⟨r87, hd, hk85⟩ := wt_wh_o hd
                  unfold bX4_next_4 at hd
                  refine lv_iload (pc := 66) hx hb dX4_next_66 (lv_at hl 7 rfl) ?_
                  refine lv_bipush (pc := 68) (v := 10) hx hb dX4_next_68 (by decide) ?_
                  refine lv_icmp_ge (pc := 70) (tgt := 174) hx hb dX4_next_70 (by decide) (fun c90 => ?_) (fun c90 => ?_)
                  · have hd := wt_it hd c90
                    exact hX84 (v80.1, v80.2.1, v80.2.2.2) (wt_exit hd hk85) _ _ _ hW hS (lv_sub hl [0, 1, 2, 3, 4, 5, 6] rfl)
                  · have hd := wt_if hd c90
                    refine lv_aload_n (pc := 73) hx hb dX4_next_73 rfl (lv_at hl 0 rfl) ?_
                    refine lv_iload (pc := 74) hx hb dX4_next_74 (lv_at hl 6 rfl) ?_
                    refine lv_iload_n (pc := 76) hx hb dX4_next_76 rfl (lv_at hl 3 rfl) ?_
                    refine lv_iload (pc := 77) hx hb dX4_next_77 (lv_at hl 7 rfl) ?_
                    obtain ⟨w91, hc92, hd⟩ := wt_bd_o hd
                    refine kX4_isLookedAt (pc := 79) hx hb hml hown hts hK hJ hW hS hc92 hl.1 (Nat.le_of_ble_eq_true rfl) ⟨Nat.le_of_ble_eq_true rfl, Nat.le_of_ble_eq_true rfl⟩ ⟨Nat.le_refl _, Nat.le_refl _⟩ dX4_next_79 (fun H locs hW hS => ?_)
                    refine lv_if_eq (pc := 82) (tgt := 88) hx hb dX4_next_82 (by decide) (fun c93 => ?_) (fun c93 => ?_)
                    · have hd := wt_it hd c93
                      refine lv_aload_n (pc := 88) hx hb dX4_next_88 rfl (lv_at hl 0 rfl) ?_
                      refine lv_iload_n (pc := 89) hx hb dX4_next_89 rfl (lv_at hl 1 rfl) ?_
                      refine lv_iload_n (pc := 90) hx hb dX4_next_90 rfl (lv_at hl 3 rfl) ?_
                      obtain ⟨w94, hc95, hd⟩ := wt_bd_o hd
                      refine kX4_runs (pc := 91) hx hb hml hown hts hK hJ hW hS hc95 hl.1 (Nat.le_of_ble_eq_true rfl) ⟨Nat.le_of_ble_eq_true rfl, Nat.le_of_ble_eq_true rfl⟩ ⟨Nat.le_refl _, Nat.le_refl _⟩ dX4_next_91 (fun H locs hW hS => ?_)
                      refine lv_aload_n (pc := 94) hx hb dX4_next_94 rfl (lv_at hl 0 rfl) ?_
                      refine lv_iload (pc := 95) hx hb dX4_next_95 (lv_at hl 6 rfl) ?_
                      refine lv_iload (pc := 97) hx hb dX4_next_97 (lv_at hl 7 rfl) ?_
                      obtain ⟨w96, hc97, hd⟩ := wt_bd_o hd
                      refine kX4_pileAt (pc := 99) hx hb hml hown hts hK hJ hW hS hc97 hl.1 (Nat.le_of_ble_eq_true rfl) ⟨Nat.le_of_ble_eq_true rfl, Nat.le_of_ble_eq_true rfl⟩ ⟨Nat.le_refl _, Nat.le_refl _⟩ dX4_next_99 (fun H locs hW hS => ?_)
                      refine lv_istore (pc := 102) (lv' := [(8, .int w96), (0, .ref X.1.1), (1, .int a0), (2, .int a1), (3, .int a2), (4, .int v80.1), (5, .int v80.2.1), (6, .int v69.2.2.1), (7, .int v80.2.2.1)]) hx hb dX4_next_102 hl (by decide) rfl (fun ls hl => ?_)
                      refine lv_aload_n (pc := 104) hx hb dX4_next_104 rfl (lv_at hl 1 rfl) ?_
                      refine lv_iload_n (pc := 105) hx hb dX4_next_105 rfl (lv_at hl 3 rfl) ?_
                      refine lv_iload_n (pc := 106) hx hb dX4_next_106 rfl (lv_at hl 4 rfl) ?_
                      obtain ⟨w98, hc99, hd⟩ := wt_bd_o hd
                      refine kX4_runs (pc := 107) hx hb hml hown hts hK hJ hW hS hc99 hl.1 (Nat.le_of_ble_eq_true rfl) ⟨Nat.le_of_ble_eq_true rfl, Nat.le_of_ble_eq_true rfl⟩ ⟨Nat.le_refl _, Nat.le_refl _⟩ dX4_next_107 (fun H locs hW hS => ?_)
                      refine lv_iload (pc := 110) hx hb dX4_next_110 (lv_at hl 0 rfl) ?_
                      refine lv_aload_n (pc := 112) hx hb dX4_next_112 rfl (lv_at hl 1 rfl) ?_
                      refine lv_iload (pc := 113) hx hb dX4_next_113 (lv_at hl 7 rfl) ?_
                      refine lv_iload (pc := 115) hx hb dX4_next_115 (lv_at hl 8 rfl) ?_
                      obtain ⟨w100, hc101, hd⟩ := wt_bd_o hd
                      refine kX4_pileAt (pc := 117) hx hb hml hown hts hK hJ hW hS hc101 hl.1 (Nat.le_of_ble_eq_true rfl) ⟨Nat.le_of_ble_eq_true rfl, Nat.le_of_ble_eq_true rfl⟩ ⟨Nat.le_refl _, Nat.le_refl _⟩ dX4_next_117 (fun H locs hW hS => ?_)
                      refine lv_isub (pc := 120) hx hb dX4_next_120 ?_
                      obtain ⟨n102, en102, hd⟩ := wt_lt_o hd
                      refine lv_tope en102 ?_
                      refine lv_istore (pc := 121) (lv' := [(9, .int n102), (8, .int w96), (0, .ref X.1.1), (1, .int a0), (2, .int a1), (3, .int a2), (4, .int v80.1), (5, .int v80.2.1), (6, .int v69.2.2.1), (7, .int v80.2.2.1)]) hx hb dX4_next_121 hl (by decide) rfl (fun ls hl => ?_)
                      refine lv_iload (pc := 123) hx hb dX4_next_123 (lv_at hl 0 rfl) ?_
                      obtain ⟨w103, hj104, hq105⟩ := wt_bd_o hd
                      have hX106 : ∀ w103_ : Int32, w103_ = w103 → ∀ (H : Heap) (locs : List Loc) (ls : Array Slot), mW X w98 H → va_S (mA lo hi) s_.heap H locs → lv_has ls 10 [(0, .ref X.1.1), (1, .int a0), (2, .int a1), (3, .int a2), (4, .int v80.1), (5, .int v80.2.1), (6, .int v69.2.2.1), (7, .int v80.2.2.1)] → W p_ l e_ (headSpec (ws_ yX4_next cX4_next 10 (some .int)) ({ frames := 4, cells := 0, slots := 0, locals := 98 })).room s_ m_ ([.ref X.1.1, .int a0, .int a1, .int a2] : List Value).toArray below_ meth_ c_ H locs 0 0 (MQ below_ (mQi X out_.1 out_.2 (mA lo hi)) ([.ref X.1.1, .int a0, .int a1, .int a2] : List Value).toArray s_ 0 0 (mA lo hi)) (F0 m_ 136 ls [.int w103_]) := by
                        intro w103_ hw_
                        have hd := hq105
                        subst hw_
                        clear hj104 hq105
                        intro H locs ls hW hS hl
                        refine lv_istore (pc := 136) (lv' := [(9, .int w103_), (0, .ref X.1.1), (1, .int a0), (2, .int a1), (3, .int a2), (4, .int v80.1), (5, .int v80.2.1), (6, .int v69.2.2.1), (7, .int v80.2.2.1)]) hx hb dX4_next_136 hl (by decide) rfl (fun ls hl => ?_)
                        refine lv_iload (pc := 138) hx hb dX4_next_138 (lv_at hl 0 rfl) ?_
                        refine lv_iload (pc := 140) hx hb dX4_next_140 (lv_at hl 6 rfl) ?_
                        refine lv_icmp_gt (pc := 142) (tgt := 148) hx hb dX4_next_142 (by decide) (fun c108 => ?_) (fun c108 => ?_)
                        · have hd := wt_it hd c108
                          refine lv_iload (pc := 148) hx hb dX4_next_148 (lv_at hl 0 rfl) ?_
                          refine lv_istore (pc := 150) (lv' := [(5, .int w103_), (9, .int w103_), (0, .ref X.1.1), (1, .int a0), (2, .int a1), (3, .int a2), (4, .int v80.1), (6, .int v69.2.2.1), (7, .int v80.2.2.1)]) hx hb dX4_next_150 hl (by decide) rfl (fun ls hl => ?_)
                          refine lv_bipush (pc := 152) (v := 100) hx hb dX4_next_152 (by decide) ?_
                          refine lv_iload (pc := 154) hx hb dX4_next_154 (lv_at hl 1 rfl) ?_
                          refine lv_imul (pc := 156) hx hb dX4_next_156 ?_
                          refine lv_bipush (pc := 157) (v := 10) hx hb dX4_next_157 (by decide) ?_
                          refine lv_iload (pc := 159) hx hb dX4_next_159 (lv_at hl 7 rfl) ?_
                          refine lv_imul (pc := 161) hx hb dX4_next_161 ?_
                          refine lv_iadd (pc := 162) hx hb dX4_next_162 ?_
                          refine lv_iload (pc := 163) hx hb dX4_next_163 (lv_at hl 8 rfl) ?_
                          refine lv_iadd (pc := 165) hx hb dX4_next_165 ?_
                          obtain ⟨n109, en109, hd⟩ := wt_lt_o hd
                          refine lv_tope en109 ?_
                          refine lv_istore (pc := 166) (lv' := [(4, .int n109), (5, .int w103_), (9, .int w103_), (0, .ref X.1.1), (1, .int a0), (2, .int a1), (3, .int a2), (6, .int v69.2.2.1), (7, .int v80.2.2.1)]) hx hb dX4_next_166 hl (by decide) rfl (fun ls hl => ?_)
                          obtain ⟨n110, en110, hd⟩ := wt_lt_o hd
                          refine lv_iinc (pc := 168) (k := 8) (v := n110) (lv' := [(7, .int n110), (4, .int n109), (5, .int w103_), (9, .int w103_), (0, .ref X.1.1), (1, .int a0), (2, .int a1), (3, .int a2), (6, .int v69.2.2.1)]) hx hb dX4_next_168 hl rfl en110.symm (by decide) rfl (fun ls hl => ?_)
                          refine lv_goto (pc := 171) (tgt := 66) hx hb dX4_next_171 (by decide) ?_
                          exact ih86 _ (wt_again hd hk85) _ _ _ hW hS (lv_sub hl [4, 5, 6, 7, 1, 2, 8, 0] rfl)
                        · have hd := wt_if hd c108
                          refine lv_goto (pc := 145) (tgt := 168) hx hb dX4_next_145 (by decide) ?_
                          obtain ⟨n111, en111, hd⟩ := wt_lt_o hd
                          refine lv_iinc (pc := 168) (k := 8) (v := n111) (lv' := [(7, .int n111), (9, .int w103_), (0, .ref X.1.1), (1, .int a0), (2, .int a1), (3, .int a2), (4, .int v80.1), (5, .int v80.2.1), (6, .int v69.2.2.1)]) hx hb dX4_next_168 hl rfl en111.symm (by decide) rfl (fun ls hl => ?_)
                          refine lv_goto (pc := 171) (tgt := 66) hx hb dX4_next_171 (by decide) ?_
                          exact ih86 _ (wt_again hd hk85) _ _ _ hW hS (lv_sub hl [2, 3, 4, 5, 6, 7, 8, 0] rfl)
                      have hd := hj104
                      refine lv_if_ge (pc := 125) (tgt := 134) hx hb dX4_next_125 (by decide) (fun c107 => ?_) (fun c107 => ?_)
                      · have hd := wt_it hd c107
                        refine lv_iload (pc := 134) hx hb dX4_next_134 (lv_at hl 0 rfl) ?_
                        exact hX106 n102 (Option.some.inj hd) _ _ _ hW hS (lv_sub hl [2, 3, 4, 5, 6, 7, 8, 9] rfl)
                      · have hd := wt_if hd c107
                        refine lv_iload (pc := 128) hx hb dX4_next_128 (lv_at hl 0 rfl) ?_
                        refine lv_ineg (pc := 130) hx hb dX4_next_130 ?_
                        refine lv_goto (pc := 131) (tgt := 136) hx hb dX4_next_131 (by decide) ?_
                        exact hX106 (-n102) (Option.some.inj hd) _ _ _ hW hS (lv_sub hl [2, 3, 4, 5, 6, 7, 8, 9] rfl)
                    · have hd := wt_if hd c93
                      refine lv_goto (pc := 85) (tgt := 168) hx hb dX4_next_85 (by decide) ?_
                      obtain ⟨n112, en112, hd⟩ := wt_lt_o hd
                      refine lv_iinc (pc := 168) (k := 7) (v := n112) (lv' := [(7, .int n112), (0, .ref X.1.1), (1, .int a0), (2, .int a1), (3, .int a2), (4, .int v80.1), (5, .int v80.2.1), (6, .int v69.2.2.1)]) hx hb dX4_next_168 hl rfl en112.symm (by decide) rfl (fun ls hl => ?_)
                      refine lv_goto (pc := 171) (tgt := 66) hx hb dX4_next_171 (by decide) ?_
                      exact ih86 _ (wt_again hd hk85) _ _ _ hW hS (lv_sub hl [1, 2, 3, 4, 5, 6, 7, 0] rfl)
              obtain ⟨k88, hL82⟩ := wt_whC_o hL82
              exact hI89 k88 _ hL82 _ _ _ hW hS (lv_sub hl [1, 2, 3, 4, 5, 6, 7, 0] rfl)
        obtain ⟨k77, hL71⟩ := wt_whC_o hL71
        exact hI78 k77 _ hL71 _ _ _ hW hS (lv_sub hl [3, 4, 5, 6, 2, 1, 0] rfl)
      · have hd := wt_if hd c68
        refine lv_iconst (pc := 45) (v := 0) hx hb dX4_next_45 (by decide) ?_
        exact mr_iret hx hb hr rfl hlocks (wt_p1 hd) (wt_p2 hd) hW hK hS dX4_next_46
  have hd := hj5
  refine lv_if_eq (pc := 11) (tgt := 22) hx hb dX4_next_11 (by decide) (fun c8 => ?_) (fun c8 => ?_)
  · have hd := wt_it hd c8
    exact hX7 () (Option.some.inj hd) _ _ _ hW hS hl
  · have hd := wt_if hd c8
    refine lv_aload_n (pc := 14) hx hb dX4_next_14 rfl (lv_at hl 0 rfl) ?_
    refine lv_iload_n (pc := 15) hx hb dX4_next_15 rfl (lv_at hl 2 rfl) ?_
    obtain ⟨w9, hc10, hd⟩ := wt_bd_o hd
    refine kX4_isStory (pc := 16) hx hb hml hown hts hK hJ hW hS hc10 hl.1 (Nat.le_of_ble_eq_true rfl) ⟨Nat.le_of_ble_eq_true rfl, Nat.le_of_ble_eq_true rfl⟩ ⟨Nat.le_refl _, Nat.le_refl _⟩ dX4_next_16 (fun H locs hW hS => ?_)
    refine lv_if_ne (pc := 19) (tgt := 26) hx hb dX4_next_19 (by decide) (fun c11 => ?_) (fun c11 => ?_)
    · have hd := wt_if hd c11
      refine lv_iconst (pc := 26) (v := 0) hx hb dX4_next_26 (by decide) ?_
      refine lv_iconst (pc := 27) (v := 1) hx hb dX4_next_27 (by decide) ?_
      obtain ⟨w12, hc13, hd⟩ := wt_bd_o hd
      refine kX4_bad (pc := 28) hx hb hml hown hts hK hJ hW hS hc13 hl.1 (Nat.le_of_ble_eq_true rfl) ⟨Nat.le_of_ble_eq_true rfl, Nat.le_of_ble_eq_true rfl⟩ ⟨Nat.le_refl _, Nat.le_refl _⟩ dX4_next_28 (fun H locs hW hS => ?_)
      refine lv_if_ne (pc := 31) (tgt := 45) hx hb dX4_next_31 (by decide) (fun c14 => ?_) (fun c14 => ?_)
      · have hd := wt_if hd c14
        refine lv_iconst (pc := 45) (v := 0) hx hb dX4_next_45 (by decide) ?_
        have hd := wt_rs_r (Option.some.inj hd) hq6
        exact mr_iret hx hb hr rfl hlocks (wt_p1 hd) (wt_p2 hd) hW hK hS dX4_next_46
      · have hd := wt_it hd c14
        refine lv_aload_n (pc := 34) hx hb dX4_next_34 rfl (lv_at hl 0 rfl) ?_
        refine lv_iconst (pc := 35) (v := 0) hx hb dX4_next_35 (by decide) ?_
        refine lv_iconst (pc := 36) (v := 0) hx hb dX4_next_36 (by decide) ?_
        refine lv_iload_n (pc := 37) hx hb dX4_next_37 rfl (lv_at hl 3 rfl) ?_
        refine lv_iconst (pc := 38) (v := 2) hx hb dX4_next_38 (by decide) ?_
        obtain ⟨w15, hc16, hd⟩ := wt_bd_o hd
        refine kX4_badPlace (pc := 39) hx hb hml hown hts hK hJ hW hS hc16 hl.1 (Nat.le_of_ble_eq_true rfl) ⟨Nat.le_of_ble_eq_true rfl, Nat.le_of_ble_eq_true rfl⟩ ⟨Nat.le_refl _, Nat.le_refl _⟩ dX4_next_39 (fun H locs hW hS => ?_)
        refine lv_if_eq (pc := 42) (tgt := 47) hx hb dX4_next_42 (by decide) (fun c17 => ?_) (fun c17 => ?_)
        · have hd := wt_it hd c17
          refine lv_iconst (pc := 47) (v := -1) hx hb dX4_next_47 (by decide) ?_
          refine lv_istore (pc := 48) (lv' := [(4, .int (-1 : Int32)), (0, .ref X.1.1), (1, .int a0), (2, .int a1), (3, .int a2)]) hx hb dX4_next_48 hl (by decide) rfl (fun ls hl => ?_)
          refine lv_iconst (pc := 50) (v := 0) hx hb dX4_next_50 (by decide) ?_
          refine lv_istore (pc := 51) (lv' := [(5, .int (0 : Int32)), (4, .int (-1 : Int32)), (0, .ref X.1.1), (1, .int a0), (2, .int a1), (3, .int a2)]) hx hb dX4_next_51 hl (by decide) rfl (fun ls hl => ?_)
          refine lv_iconst (pc := 53) (v := 0) hx hb dX4_next_53 (by decide) ?_
          refine lv_istore (pc := 54) (lv' := [(6, .int (0 : Int32)), (5, .int (0 : Int32)), (4, .int (-1 : Int32)), (0, .ref X.1.1), (1, .int a0), (2, .int a1), (3, .int a2)]) hx hb dX4_next_54 hl (by decide) rfl (fun ls hl => ?_)
          obtain ⟨w19, hL20, hq21⟩ := wt_bd_o hd
          have hX22 : ∀ w19_ : Int32 × MSt, w19_ = w19 → ∀ (H : Heap) (locs : List Loc) (ls : Array Slot), mW X w19_.2 H → va_S (mA lo hi) s_.heap H locs → lv_has ls 10 [(4, .int w19_.1)] → W p_ l e_ (headSpec (ws_ yX4_next cX4_next 10 (some .int)) ({ frames := 4, cells := 0, slots := 0, locals := 98 })).room s_ m_ ([.ref X.1.1, .int a0, .int a1, .int a2] : List Value).toArray below_ meth_ c_ H locs 0 0 (MQ below_ (mQi X out_.1 out_.2 (mA lo hi)) ([.ref X.1.1, .int a0, .int a1, .int a2] : List Value).toArray s_ 0 0 (mA lo hi)) (F0 m_ 180 ls []) := by
            intro w19_ hw_
            have hd := hq21
            subst hw_
            clear hL20 hq21
            intro H locs ls hW hS hl
            refine lv_iload (pc := 180) hx hb dX4_next_180 (lv_at hl 0 rfl) ?_
            have hd := wt_rs_r (Option.some.inj hd) hq6
            exact mr_iret hx hb hr rfl hlocks (wt_p1 hd) (wt_p2 hd) hW hK hS dX4_next_182
          have hI27 : ∀ (k26 : Nat) (v18 : Int32 × Int32 × Int32 × MSt), wt_wh (bX4_next_1 a0 a1 a2) k26 v18 = some w19 → ∀ (H : Heap) (locs : List Loc) (ls : Array Slot), mW X v18.2.2.2 H → va_S (mA lo hi) s_.heap H locs → lv_has ls 10 [(0, .ref X.1.1), (1, .int a0), (2, .int a1), (3, .int a2), (4, .int v18.1), (5, .int v18.2.1), (6, .int v18.2.2.1)] → W p_ l e_ (headSpec (ws_ yX4_next cX4_next 10 (some .int)) ({ frames := 4, cells := 0, slots := 0, locals := 98 })).room s_ m_ ([.ref X.1.1, .int a0, .int a1, .int a2] : List Value).toArray below_ meth_ c_ H locs 0 0 (MQ below_ (mQi X out_.1 out_.2 (mA lo hi)) ([.ref X.1.1, .int a0, .int a1, .int a2] : List Value).toArray s_ 0 0 (mA lo hi)) (F0 m_ 56 ls []) := by
            intro k26
            induction k26 with
            | zero => intro v18 hd; exact absurd hd wt_wh_z
            | succ k26 ih24 =>
              intro v18 hd
              intro H locs ls hW hS hl
              obtain ⟨r25, hd, hk23⟩ := wt_wh_o hd
              unfold bX4_next_1 at hd
              refine lv_iload (pc := 56) hx hb dX4_next_56 (lv_at hl 6 rfl) ?_
              refine lv_bipush (pc := 58) (v := 10) hx hb dX4_next_58 (by decide) ?_
              refine lv_icmp_ge (pc := 60) (tgt := 180) hx hb dX4_next_60 (by decide) (fun c28 => ?_) (fun c28 => ?_)
              · have hd := wt_it hd c28
                exact hX22 (v18.1, v18.2.2.2) (wt_exit hd hk23) _ _ _ hW hS (lv_sub hl [4] rfl)
              · have hd := wt_if hd c28
                refine lv_iconst (pc := 63) (v := 0) hx hb dX4_next_63 (by decide) ?_
                refine lv_istore (pc := 64) (lv' := [(7, .int (0 : Int32)), (0, .ref X.1.1), (1, .int a0), (2, .int a1), (3, .int a2), (4, .int v18.1), (5, .int v18.2.1), (6, .int v18.2.2.1)]) hx hb dX4_next_64 hl (by decide) rfl (fun ls hl => ?_)
                obtain ⟨w30, hL31, hq32⟩ := wt_bd_o hd
                have hX33 : ∀ w30_ : Int32 × Int32 × MSt, w30_ = w30 → ∀ (H : Heap) (locs : List Loc) (ls : Array Slot), mW X w30_.2.2 H → va_S (mA lo hi) s_.heap H locs → lv_has ls 10 [(0, .ref X.1.1), (1, .int a0), (2, .int a1), (3, .int a2), (4, .int w30_.1), (5, .int w30_.2.1), (6, .int v18.2.2.1)] → W p_ l e_ (headSpec (ws_ yX4_next cX4_next 10 (some .int)) ({ frames := 4, cells := 0, slots := 0, locals := 98 })).room s_ m_ ([.ref X.1.1, .int a0, .int a1, .int a2] : List Value).toArray below_ meth_ c_ H locs 0 0 (MQ below_ (mQi X out_.1 out_.2 (mA lo hi)) ([.ref X.1.1, .int a0, .int a1, .int a2] : List Value).toArray s_ 0 0 (mA lo hi)) (F0 m_ 174 ls []) := by
                  intro w30_ hw_
                  have hd := hq32
                  subst hw_
                  clear hL31 hq32
                  intro H locs ls hW hS hl
                  obtain ⟨n62, en62, hd⟩ := wt_lt_o hd
                  refine lv_iinc (pc := 174) (k := 6) (v := n62) (lv' := [(6, .int n62), (0, .ref X.1.1), (1, .int a0), (2, .int a1), (3, .int a2), (4, .int w30_.1), (5, .int w30_.2.1)]) hx hb dX4_next_174 hl rfl en62.symm (by decide) rfl (fun ls hl => ?_)
                  refine lv_goto (pc := 177) (tgt := 56) hx hb dX4_next_177 (by decide) ?_
                  exact ih24 _ (wt_again hd hk23) _ _ _ hW hS (lv_sub hl [1, 2, 3, 4, 5, 6, 0] rfl)
                have hI38 : ∀ (k37 : Nat) (v29 : Int32 × Int32 × Int32 × MSt), wt_wh (bX4_next_2 a0 a1 a2 v18) k37 v29 = some w30 → ∀ (H : Heap) (locs : List Loc) (ls : Array Slot), mW X v29.2.2.2 H → va_S (mA lo hi) s_.heap H locs → lv_has ls 10 [(0, .ref X.1.1), (1, .int a0), (2, .int a1), (3, .int a2), (4, .int v29.1), (5, .int v29.2.1), (6, .int v18.2.2.1), (7, .int v29.2.2.1)] → W p_ l e_ (headSpec (ws_ yX4_next cX4_next 10 (some .int)) ({ frames := 4, cells := 0, slots := 0, locals := 98 })).room s_ m_ ([.ref X.1.1, .int a0, .int a1, .int a2] : List Value).toArray below_ meth_ c_ H locs 0 0 (MQ below_ (mQi X out_.1 out_.2 (mA lo hi)) ([.ref X.1.1, .int a0, .int a1, .int a2] : List Value).toArray s_ 0 0 (mA lo hi)) (F0 m_ 66 ls []) := by
                  intro k37
                  induction k37 with
                  | zero => intro v29 hd; exact absurd hd wt_wh_z
                  | succ k37 ih35 =>
                    intro v29 hd
                    intro H locs ls hW hS hl
                    obtain ⟨r36, hd, hk34⟩ := wt_wh_o hd
                    unfold bX4_next_2 at hd
                    refine lv_iload (pc := 66) hx hb dX4_next_66 (lv_at hl 7 rfl) ?_
                    refine lv_bipush (pc := 68) (v := 10) hx hb dX4_next_68 (by decide) ?_
                    refine lv_icmp_ge (pc := 70) (tgt := 174) hx hb dX4_next_70 (by decide) (fun c39 => ?_) (fun c39 => ?_)
                    · have hd := wt_it hd c39
                      exact hX33 (v29.1, v29.2.1, v29.2.2.2) (wt_exit hd hk34) _ _ _ hW hS (lv_sub hl [0, 1, 2, 3, 4, 5, 6] rfl)
                    · have hd := wt_if hd c39
                      refine lv_aload_n (pc := 73) hx hb dX4_next_73 rfl (lv_at hl 0 rfl) ?_
                      refine lv_iload (pc := 74) hx hb dX4_next_74 (lv_at hl 6 rfl) ?_
                      refine lv_iload_n (pc := 76) hx hb dX4_next_76 rfl (lv_at hl 3 rfl) ?_
                      refine lv_iload (pc := 77) hx hb dX4_next_77 (lv_at hl 7 rfl) ?_
                      obtain ⟨w40, hc41, hd⟩ := wt_bd_o hd
                      refine kX4_isLookedAt (pc := 79) hx hb hml hown hts hK hJ hW hS hc41 hl.1 (Nat.le_of_ble_eq_true rfl) ⟨Nat.le_of_ble_eq_true rfl, Nat.le_of_ble_eq_true rfl⟩ ⟨Nat.le_refl _, Nat.le_refl _⟩ dX4_next_79 (fun H locs hW hS => ?_)
                      refine lv_if_eq (pc := 82) (tgt := 88) hx hb dX4_next_82 (by decide) (fun c42 => ?_) (fun c42 => ?_)
                      · have hd := wt_it hd c42
                        refine lv_aload_n (pc := 88) hx hb dX4_next_88 rfl (lv_at hl 0 rfl) ?_
                        refine lv_iload_n (pc := 89) hx hb dX4_next_89 rfl (lv_at hl 1 rfl) ?_
                        refine lv_iload_n (pc := 90) hx hb dX4_next_90 rfl (lv_at hl 3 rfl) ?_
                        obtain ⟨w43, hc44, hd⟩ := wt_bd_o hd
                        refine kX4_runs (pc := 91) hx hb hml hown hts hK hJ hW hS hc44 hl.1 (Nat.le_of_ble_eq_true rfl) ⟨Nat.le_of_ble_eq_true rfl, Nat.le_of_ble_eq_true rfl⟩ ⟨Nat.le_refl _, Nat.le_refl _⟩ dX4_next_91 (fun H locs hW hS => ?_)
                        refine lv_aload_n (pc := 94) hx hb dX4_next_94 rfl (lv_at hl 0 rfl) ?_
                        refine lv_iload (pc := 95) hx hb dX4_next_95 (lv_at hl 6 rfl) ?_
                        refine lv_iload (pc := 97) hx hb dX4_next_97 (lv_at hl 7 rfl) ?_
                        obtain ⟨w45, hc46, hd⟩ := wt_bd_o hd
                        refine kX4_pileAt (pc := 99) hx hb hml hown hts hK hJ hW hS hc46 hl.1 (Nat.le_of_ble_eq_true rfl) ⟨Nat.le_of_ble_eq_true rfl, Nat.le_of_ble_eq_true rfl⟩ ⟨Nat.le_refl _, Nat.le_refl _⟩ dX4_next_99 (fun H locs hW hS => ?_)
                        refine lv_istore (pc := 102) (lv' := [(8, .int w45), (0, .ref X.1.1), (1, .int a0), (2, .int a1), (3, .int a2), (4, .int v29.1), (5, .int v29.2.1), (6, .int v18.2.2.1), (7, .int v29.2.2.1)]) hx hb dX4_next_102 hl (by decide) rfl (fun ls hl => ?_)
                        refine lv_aload_n (pc := 104) hx hb dX4_next_104 rfl (lv_at hl 1 rfl) ?_
                        refine lv_iload_n (pc := 105) hx hb dX4_next_105 rfl (lv_at hl 3 rfl) ?_
                        refine lv_iload_n (pc := 106) hx hb dX4_next_106 rfl (lv_at hl 4 rfl) ?_
                        obtain ⟨w47, hc48, hd⟩ := wt_bd_o hd
                        refine kX4_runs (pc := 107) hx hb hml hown hts hK hJ hW hS hc48 hl.1 (Nat.le_of_ble_eq_true rfl) ⟨Nat.le_of_ble_eq_true rfl, Nat.le_of_ble_eq_true rfl⟩ ⟨Nat.le_refl _, Nat.le_refl _⟩ dX4_next_107 (fun H locs hW hS => ?_)
                        refine lv_iload (pc := 110) hx hb dX4_next_110 (lv_at hl 0 rfl) ?_
                        refine lv_aload_n (pc := 112) hx hb dX4_next_112 rfl (lv_at hl 1 rfl) ?_
                        refine lv_iload (pc := 113) hx hb dX4_next_113 (lv_at hl 7 rfl) ?_
                        refine lv_iload (pc := 115) hx hb dX4_next_115 (lv_at hl 8 rfl) ?_
                        obtain ⟨w49, hc50, hd⟩ := wt_bd_o hd
                        refine kX4_pileAt (pc := 117) hx hb hml hown hts hK hJ hW hS hc50 hl.1 (Nat.le_of_ble_eq_true rfl) ⟨Nat.le_of_ble_eq_true rfl, Nat.le_of_ble_eq_true rfl⟩ ⟨Nat.le_refl _, Nat.le_refl _⟩ dX4_next_117 (fun H locs hW hS => ?_)
                        refine lv_isub (pc := 120) hx hb dX4_next_120 ?_
                        obtain ⟨n51, en51, hd⟩ := wt_lt_o hd
                        refine lv_tope en51 ?_
                        refine lv_istore (pc := 121) (lv' := [(9, .int n51), (8, .int w45), (0, .ref X.1.1), (1, .int a0), (2, .int a1), (3, .int a2), (4, .int v29.1), (5, .int v29.2.1), (6, .int v18.2.2.1), (7, .int v29.2.2.1)]) hx hb dX4_next_121 hl (by decide) rfl (fun ls hl => ?_)
                        refine lv_iload (pc := 123) hx hb dX4_next_123 (lv_at hl 0 rfl) ?_
                        obtain ⟨w52, hj53, hq54⟩ := wt_bd_o hd
                        have hX55 : ∀ w52_ : Int32, w52_ = w52 → ∀ (H : Heap) (locs : List Loc) (ls : Array Slot), mW X w47 H → va_S (mA lo hi) s_.heap H locs → lv_has ls 10 [(0, .ref X.1.1), (1, .int a0), (2, .int a1), (3, .int a2), (4, .int v29.1), (5, .int v29.2.1), (6, .int v18.2.2.1), (7, .int v29.2.2.1)] → W p_ l e_ (headSpec (ws_ yX4_next cX4_next 10 (some .int)) ({ frames := 4, cells := 0, slots := 0, locals := 98 })).room s_ m_ ([.ref X.1.1, .int a0, .int a1, .int a2] : List Value).toArray below_ meth_ c_ H locs 0 0 (MQ below_ (mQi X out_.1 out_.2 (mA lo hi)) ([.ref X.1.1, .int a0, .int a1, .int a2] : List Value).toArray s_ 0 0 (mA lo hi)) (F0 m_ 136 ls [.int w52_]) := by
                          intro w52_ hw_
                          have hd := hq54
                          subst hw_
                          clear hj53 hq54
                          intro H locs ls hW hS hl
                          refine lv_istore (pc := 136) (lv' := [(9, .int w52_), (0, .ref X.1.1), (1, .int a0), (2, .int a1), (3, .int a2), (4, .int v29.1), (5, .int v29.2.1), (6, .int v18.2.2.1), (7, .int v29.2.2.1)]) hx hb dX4_next_136 hl (by decide) rfl (fun ls hl => ?_)
                          refine lv_iload (pc := 138) hx hb dX4_next_138 (lv_at hl 0 rfl) ?_
                          refine lv_iload (pc := 140) hx hb dX4_next_140 (lv_at hl 6 rfl) ?_
                          refine lv_icmp_gt (pc := 142) (tgt := 148) hx hb dX4_next_142 (by decide) (fun c57 => ?_) (fun c57 => ?_)
                          · have hd := wt_it hd c57
                            refine lv_iload (pc := 148) hx hb dX4_next_148 (lv_at hl 0 rfl) ?_
                            refine lv_istore (pc := 150) (lv' := [(5, .int w52_), (9, .int w52_), (0, .ref X.1.1), (1, .int a0), (2, .int a1), (3, .int a2), (4, .int v29.1), (6, .int v18.2.2.1), (7, .int v29.2.2.1)]) hx hb dX4_next_150 hl (by decide) rfl (fun ls hl => ?_)
                            refine lv_bipush (pc := 152) (v := 100) hx hb dX4_next_152 (by decide) ?_
                            refine lv_iload (pc := 154) hx hb dX4_next_154 (lv_at hl 1 rfl) ?_
                            refine lv_imul (pc := 156) hx hb dX4_next_156 ?_
                            refine lv_bipush (pc := 157) (v := 10) hx hb dX4_next_157 (by decide) ?_
                            refine lv_iload (pc := 159) hx hb dX4_next_159 (lv_at hl 7 rfl) ?_
                            refine lv_imul (pc := 161) hx hb dX4_next_161 ?_
                            refine lv_iadd (pc := 162) hx hb dX4_next_162 ?_
                            refine lv_iload (pc := 163) hx hb dX4_next_163 (lv_at hl 8 rfl) ?_
                            refine lv_iadd (pc := 165) hx hb dX4_next_165 ?_
                            obtain ⟨n58, en58, hd⟩ := wt_lt_o hd
                            refine lv_tope en58 ?_
                            refine lv_istore (pc := 166) (lv' := [(4, .int n58), (5, .int w52_), (9, .int w52_), (0, .ref X.1.1), (1, .int a0), (2, .int a1), (3, .int a2), (6, .int v18.2.2.1), (7, .int v29.2.2.1)]) hx hb dX4_next_166 hl (by decide) rfl (fun ls hl => ?_)
                            obtain ⟨n59, en59, hd⟩ := wt_lt_o hd
                            refine lv_iinc (pc := 168) (k := 8) (v := n59) (lv' := [(7, .int n59), (4, .int n58), (5, .int w52_), (9, .int w52_), (0, .ref X.1.1), (1, .int a0), (2, .int a1), (3, .int a2), (6, .int v18.2.2.1)]) hx hb dX4_next_168 hl rfl en59.symm (by decide) rfl (fun ls hl => ?_)
                            refine lv_goto (pc := 171) (tgt := 66) hx hb dX4_next_171 (by decide) ?_
                            exact ih35 _ (wt_again hd hk34) _ _ _ hW hS (lv_sub hl [4, 5, 6, 7, 1, 2, 8, 0] rfl)
                          · have hd := wt_if hd c57
                            refine lv_goto (pc := 145) (tgt := 168) hx hb dX4_next_145 (by decide) ?_
                            obtain ⟨n60, en60, hd⟩ := wt_lt_o hd
                            refine lv_iinc (pc := 168) (k := 8) (v := n60) (lv' := [(7, .int n60), (9, .int w52_), (0, .ref X.1.1), (1, .int a0), (2, .int a1), (3, .int a2), (4, .int v29.1), (5, .int v29.2.1), (6, .int v18.2.2.1)]) hx hb dX4_next_168 hl rfl en60.symm (by decide) rfl (fun ls hl => ?_)
                            refine lv_goto (pc := 171) (tgt := 66) hx hb dX4_next_171 (by decide) ?_
                            exact ih35 _ (wt_again hd hk34) _ _ _ hW hS (lv_sub hl [2, 3, 4, 5, 6, 7, 8, 0] rfl)
                        have hd := hj53
                        refine lv_if_ge (pc := 125) (tgt := 134) hx hb dX4_next_125 (by decide) (fun c56 => ?_) (fun c56 => ?_)
                        · have hd := wt_it hd c56
                          refine lv_iload (pc := 134) hx hb dX4_next_134 (lv_at hl 0 rfl) ?_
                          exact hX55 n51 (Option.some.inj hd) _ _ _ hW hS (lv_sub hl [2, 3, 4, 5, 6, 7, 8, 9] rfl)
                        · have hd := wt_if hd c56
                          refine lv_iload (pc := 128) hx hb dX4_next_128 (lv_at hl 0 rfl) ?_
                          refine lv_ineg (pc := 130) hx hb dX4_next_130 ?_
                          refine lv_goto (pc := 131) (tgt := 136) hx hb dX4_next_131 (by decide) ?_
                          exact hX55 (-n51) (Option.some.inj hd) _ _ _ hW hS (lv_sub hl [2, 3, 4, 5, 6, 7, 8, 9] rfl)
                      · have hd := wt_if hd c42
                        refine lv_goto (pc := 85) (tgt := 168) hx hb dX4_next_85 (by decide) ?_
                        obtain ⟨n61, en61, hd⟩ := wt_lt_o hd
                        refine lv_iinc (pc := 168) (k := 7) (v := n61) (lv' := [(7, .int n61), (0, .ref X.1.1), (1, .int a0), (2, .int a1), (3, .int a2), (4, .int v29.1), (5, .int v29.2.1), (6, .int v18.2.2.1)]) hx hb dX4_next_168 hl rfl en61.symm (by decide) rfl (fun ls hl => ?_)
                        refine lv_goto (pc := 171) (tgt := 66) hx hb dX4_next_171 (by decide) ?_
                        exact ih35 _ (wt_again hd hk34) _ _ _ hW hS (lv_sub hl [1, 2, 3, 4, 5, 6, 7, 0] rfl)
                obtain ⟨k37, hL31⟩ := wt_whC_o hL31
                exact hI38 k37 _ hL31 _ _ _ hW hS (lv_sub hl [1, 2, 3, 4, 5, 6, 7, 0] rfl)
          obtain ⟨k26, hL20⟩ := wt_whC_o hL20
          exact hI27 k26 _ hL20 _ _ _ hW hS (lv_sub hl [3, 4, 5, 6, 2, 1, 0] rfl)
        · have hd := wt_if hd c17
          refine lv_iconst (pc := 45) (v := 0) hx hb dX4_next_45 (by decide) ?_
          have hd := wt_rs_r (Option.some.inj hd) hq6
          exact mr_iret hx hb hr rfl hlocks (wt_p1 hd) (wt_p2 hd) hW hK hS dX4_next_46
    · have hd := wt_it hd c11
      exact hX7 () (Option.some.inj hd) _ _ _ hW hS hl
noncomputable def bX4_isSign_1 (σ : MSt) (a0 : Int32) (a1 : Int32) (a2 : Int32) (v1 : Int32) : Option ((Int32) ⊕ ((Unit) ⊕ (Int32))) :=
  if (σ.1 28) ≤ v1 then (some (.inr (.inl ()))) else (if a0 = (-1 : Int32) then (wt_lt (v1 + (1 : Int32)) fun n13 => some (.inl n13)) else (wt_ck (vp_in v1 8) <| wt_ck (vp_in (3 : Int32) 4) <| if (σ.2.2 32 (v1.toNatClampNeg) (3 : Int32).toNatClampNeg) = 0 then (wt_lt (v1 + (1 : Int32)) fun n17 => some (.inl n17)) else (wt_ck (vp_in v1 8) <| wt_ck (vp_in (0 : Int32) 4) <| if (σ.2.2 32 (v1.toNatClampNeg) (0 : Int32).toNatClampNeg) = a1 then (wt_ck (vp_in v1 8) <| wt_ck (vp_in (1 : Int32) 4) <| if a2 ≤ (σ.2.2 32 (v1.toNatClampNeg) (1 : Int32).toNatClampNeg) then (wt_ck (vp_in a0 8) <| wt_ck (vp_in v1 8) <| wt_ck (vp_in (2 : Int32) 4) <| wt_ck (vp_in (σ.2.2 32 (v1.toNatClampNeg) (2 : Int32).toNatClampNeg) 10) <| if (σ.2.2 12 (a0.toNatClampNeg) (σ.2.2 32 (v1.toNatClampNeg) (2 : Int32).toNatClampNeg).toNatClampNeg) ≤ 0 then (wt_lt (v1 + (1 : Int32)) fun n30 => some (.inl n30)) else (some (.inr (.inr (1 : Int32))))) else (wt_lt (v1 + (1 : Int32)) fun n31 => some (.inl n31))) else (wt_lt (v1 + (1 : Int32)) fun n21 => some (.inl n21)))))
noncomputable def dX4_isSign (σ : MSt) (a0 : Int32) (a1 : Int32) (a2 : Int32) : Option (Int32) :=
  wt_bd (wt_whC (bX4_isSign_1 σ a0 a1 a2) (0 : Int32)) fun w2 => wt_rs w2 (fun w2 => some (0 : Int32)) (fun z_ => some z_)
set_option maxHeartbeats 4000000 in
theorem wX4_isSign (l : Launch) {X : MPar} {lo hi : Nat} (hJ : mJ X lo hi) {σ : MSt} {a0 : Int32} {a1 : Int32} {a2 : Int32} {out_ : Int32} (hd : dX4_isSign σ a0 a1 a2 = some out_) : Met l yX4_isSign (ws_ yX4_isSign cX4_isSign 5 (some .boolean)) ({ frames := 0, cells := 0, slots := 0, locals := 0 }) (mP X σ [.ref X.1.1, .int a0, .int a1, .int a2]) (mQi X out_ σ (mA lo hi)) 0 0 (mA lo hi) := by
  refine Met.ofW (cc := cX4_isSign) (maxL := 5) (ret := (some .boolean)) (by decide) rfl ?_
  intro p_ e_ s_ m_ args_ below_ meth_ c_ s₁_ B hml hv
  obtain ⟨rfl, hW, hK⟩ := hv
  have hx := B.exec
  have hb := B.bytes
  have hr := B.returns
  have hts := atoms_spec (ws := (ws_ yX4_isSign cX4_isSign 5 (some .boolean))) B.pre
  have hts : ∀ w ∈ lw_all, w.before _ s_ = true := fun w h => hts w (List.mem_cons_of_mem _ h)
  have hown : s_.vm.findClass RX4 = some m_.cls := findClass_of_methodNamed B.named
  have hlocks := B.notSynchronized
  have hS : va_S (mA lo hi) s_.heap s_.heap [] := va_S.rf
  have hl := lv_entry ([.ref X.1.1, .int a0, .int a1, .int a2]) (n := 5) (Nat.le_of_ble_eq_true rfl)
  rw [lg_entry_eq]
  generalize (lg_sl ([.ref X.1.1, .int a0, .int a1, .int a2]) ++ List.replicate (5 - (lg_sl ([.ref X.1.1, .int a0, .int a1, .int a2])).length) Slot.unset).toArray = ls at hl ⊢
  have hl : lv_has ls 5 [(0, .ref X.1.1), (1, .int a0), (2, .int a1), (3, .int a2)] := hl
  unfold dX4_isSign at hd
  refine lv_iconst (pc := 0) (v := 0) hx hb dX4_isSign_0 (by decide) ?_
  refine lv_istore (pc := 1) (lv' := [(4, .int (0 : Int32)), (0, .ref X.1.1), (1, .int a0), (2, .int a1), (3, .int a2)]) hx hb dX4_isSign_1 hl (by decide) rfl (fun ls hl => ?_)
  obtain ⟨w2, hL3, hq4⟩ := wt_bd_o hd
  have hX5 : ∀ w2_ : Unit, (Sum.inl w2_ : (Unit) ⊕ _) = w2 → ∀ (H : Heap) (locs : List Loc) (ls : Array Slot), mW X σ H → va_S (mA lo hi) s_.heap H locs → lv_has ls 5 [] → W p_ l e_ (headSpec (ws_ yX4_isSign cX4_isSign 5 (some .boolean)) ({ frames := 0, cells := 0, slots := 0, locals := 0 })).room s_ m_ ([.ref X.1.1, .int a0, .int a1, .int a2] : List Value).toArray below_ meth_ c_ H locs 0 0 (MQ below_ (mQi X out_ σ (mA lo hi)) ([.ref X.1.1, .int a0, .int a1, .int a2] : List Value).toArray s_ 0 0 (mA lo hi)) (F0 m_ 85 ls []) := by
    intro w2_ hw_
    have hd := wt_rs_l hw_ hq4
    clear hL3 hq4
    intro H locs ls hW hS hl
    refine lv_iconst (pc := 85) (v := 0) hx hb dX4_isSign_85 (by decide) ?_
    exact mr_iret hx hb hr rfl hlocks (Option.some.inj hd) rfl hW hK hS dX4_isSign_86
  have hI10 : ∀ (k9 : Nat) (v1 : Int32), wt_wh (bX4_isSign_1 σ a0 a1 a2) k9 v1 = some w2 → ∀ (H : Heap) (locs : List Loc) (ls : Array Slot), mW X σ H → va_S (mA lo hi) s_.heap H locs → lv_has ls 5 [(0, .ref X.1.1), (1, .int a0), (2, .int a1), (3, .int a2), (4, .int v1)] → W p_ l e_ (headSpec (ws_ yX4_isSign cX4_isSign 5 (some .boolean)) ({ frames := 0, cells := 0, slots := 0, locals := 0 })).room s_ m_ ([.ref X.1.1, .int a0, .int a1, .int a2] : List Value).toArray below_ meth_ c_ H locs 0 0 (MQ below_ (mQi X out_ σ (mA lo hi)) ([.ref X.1.1, .int a0, .int a1, .int a2] : List Value).toArray s_ 0 0 (mA lo hi)) (F0 m_ 3 ls []) := by
    intro k9
    induction k9 with
    | zero => intro v1 hd; exact absurd hd wt_wh_z
    | succ k9 ih7 =>
      intro v1 hd
      intro H locs ls hW hS hl
      obtain ⟨r8, hd, hk6⟩ := wt_wh_o hd
      unfold bX4_isSign_1 at hd
      refine lv_iload (pc := 3) hx hb dX4_isSign_3 (lv_at hl 4 rfl) ?_
      refine lv_aload_n (pc := 5) hx hb dX4_isSign_5 rfl (lv_at hl 0 rfl) ?_
      refine mr_get (pc := 6) (k := 28) (v := .int ((σ.1 28))) hx hb hts hown hK hW (by decide) rfl q1557 dX4_isSign_6 ?_
      refine lv_icmp_ge (pc := 9) (tgt := 85) hx hb dX4_isSign_9 (by decide) (fun c11 => ?_) (fun c11 => ?_)
      · have hd := wt_it hd c11
        exact hX5 () (wt_exit hd hk6) _ _ _ hW hS (lv_sub hl [] rfl)
      · have hd := wt_if hd c11
        refine lv_iload_n (pc := 12) hx hb dX4_isSign_12 rfl (lv_at hl 1 rfl) ?_
        refine lv_iconst (pc := 13) (v := -1) hx hb dX4_isSign_13 (by decide) ?_
        refine lv_icmp_eq (pc := 14) (tgt := 79) hx hb dX4_isSign_14 (by decide) (fun c12 => ?_) (fun c12 => ?_)
        · have hd := wt_it hd c12
          obtain ⟨n13, en13, hd⟩ := wt_lt_o hd
          refine lv_iinc (pc := 79) (k := 4) (v := n13) (lv' := [(4, .int n13), (0, .ref X.1.1), (1, .int a0), (2, .int a1), (3, .int a2)]) hx hb dX4_isSign_79 hl rfl en13.symm (by decide) rfl (fun ls hl => ?_)
          refine lv_goto (pc := 82) (tgt := 3) hx hb dX4_isSign_82 (by decide) ?_
          exact ih7 _ (wt_again hd hk6) _ _ _ hW hS (lv_sub hl [1, 2, 3, 4, 0] rfl)
        · have hd := wt_if hd c12
          refine lv_aload_n (pc := 17) hx hb dX4_isSign_17 rfl (lv_at hl 0 rfl) ?_
          refine mr_get (pc := 18) (k := 32) (v := .ref (X.1.2.1 32)) hx hb hts hown hK hW (by decide) rfl q1561 dX4_isSign_18 ?_
          refine lv_iload (pc := 21) hx hb dX4_isSign_21 (lv_at hl 4 rfl) ?_
          obtain ⟨h14, hd⟩ := wt_ck_o hd
          refine mr_row (pc := 23) (k := 32) hx hb hK hW rfl h14 dX4_isSign_23 ?_
          refine lv_iconst (pc := 24) (v := 3) hx hb dX4_isSign_24 (by decide) ?_
          obtain ⟨h15, hd⟩ := wt_ck_o hd
          refine mr_gld (pc := 25) (k := 32) (i := (v1.toNatClampNeg)) hx hb hK hW (vp_lt h14) rfl h15 dX4_isSign_25 ?_
          refine lv_if_eq (pc := 26) (tgt := 79) hx hb dX4_isSign_26 (by decide) (fun c16 => ?_) (fun c16 => ?_)
          · have hd := wt_it hd c16
            obtain ⟨n17, en17, hd⟩ := wt_lt_o hd
            refine lv_iinc (pc := 79) (k := 4) (v := n17) (lv' := [(4, .int n17), (0, .ref X.1.1), (1, .int a0), (2, .int a1), (3, .int a2)]) hx hb dX4_isSign_79 hl rfl en17.symm (by decide) rfl (fun ls hl => ?_)
            refine lv_goto (pc := 82) (tgt := 3) hx hb dX4_isSign_82 (by decide) ?_
            exact ih7 _ (wt_again hd hk6) _ _ _ hW hS (lv_sub hl [1, 2, 3, 4, 0] rfl)
          · have hd := wt_if hd c16
            refine lv_aload_n (pc := 29) hx hb dX4_isSign_29 rfl (lv_at hl 0 rfl) ?_
            refine mr_get (pc := 30) (k := 32) (v := .ref (X.1.2.1 32)) hx hb hts hown hK hW (by decide) rfl q1561 dX4_isSign_30 ?_
            refine lv_iload (pc := 33) hx hb dX4_isSign_33 (lv_at hl 4 rfl) ?_
            obtain ⟨h18, hd⟩ := wt_ck_o hd
            refine mr_row (pc := 35) (k := 32) hx hb hK hW rfl h18 dX4_isSign_35 ?_
            refine lv_iconst (pc := 36) (v := 0) hx hb dX4_isSign_36 (by decide) ?_
            obtain ⟨h19, hd⟩ := wt_ck_o hd
            refine mr_gld (pc := 37) (k := 32) (i := (v1.toNatClampNeg)) hx hb hK hW (vp_lt h18) rfl h19 dX4_isSign_37 ?_
            refine lv_iload_n (pc := 38) hx hb dX4_isSign_38 rfl (lv_at hl 2 rfl) ?_
            refine lv_icmp_ne (pc := 39) (tgt := 79) hx hb dX4_isSign_39 (by decide) (fun c20 => ?_) (fun c20 => ?_)
            · have hd := wt_if hd c20
              obtain ⟨n21, en21, hd⟩ := wt_lt_o hd
              refine lv_iinc (pc := 79) (k := 4) (v := n21) (lv' := [(4, .int n21), (0, .ref X.1.1), (1, .int a0), (2, .int a1), (3, .int a2)]) hx hb dX4_isSign_79 hl rfl en21.symm (by decide) rfl (fun ls hl => ?_)
              refine lv_goto (pc := 82) (tgt := 3) hx hb dX4_isSign_82 (by decide) ?_
              exact ih7 _ (wt_again hd hk6) _ _ _ hW hS (lv_sub hl [1, 2, 3, 4, 0] rfl)
            · have hd := wt_it hd c20
              refine lv_aload_n (pc := 42) hx hb dX4_isSign_42 rfl (lv_at hl 0 rfl) ?_
              refine mr_get (pc := 43) (k := 32) (v := .ref (X.1.2.1 32)) hx hb hts hown hK hW (by decide) rfl q1561 dX4_isSign_43 ?_
              refine lv_iload (pc := 46) hx hb dX4_isSign_46 (lv_at hl 4 rfl) ?_
              obtain ⟨h22, hd⟩ := wt_ck_o hd
              refine mr_row (pc := 48) (k := 32) hx hb hK hW rfl h22 dX4_isSign_48 ?_
              refine lv_iconst (pc := 49) (v := 1) hx hb dX4_isSign_49 (by decide) ?_
              obtain ⟨h23, hd⟩ := wt_ck_o hd
              refine mr_gld (pc := 50) (k := 32) (i := (v1.toNatClampNeg)) hx hb hK hW (vp_lt h22) rfl h23 dX4_isSign_50 ?_
              refine lv_iload_n (pc := 51) hx hb dX4_isSign_51 rfl (lv_at hl 3 rfl) ?_
              refine lv_icmp_ge (pc := 52) (tgt := 58) hx hb dX4_isSign_52 (by decide) (fun c24 => ?_) (fun c24 => ?_)
              · have hd := wt_it hd c24
                refine lv_aload_n (pc := 58) hx hb dX4_isSign_58 rfl (lv_at hl 0 rfl) ?_
                refine mr_get (pc := 59) (k := 12) (v := .ref (X.1.2.1 12)) hx hb hts hown hK hW (by decide) rfl q1541 dX4_isSign_59 ?_
                refine lv_iload_n (pc := 62) hx hb dX4_isSign_62 rfl (lv_at hl 1 rfl) ?_
                obtain ⟨h25, hd⟩ := wt_ck_o hd
                refine mr_row (pc := 63) (k := 12) hx hb hK hW rfl h25 dX4_isSign_63 ?_
                refine lv_aload_n (pc := 64) hx hb dX4_isSign_64 rfl (lv_at hl 0 rfl) ?_
                refine mr_get (pc := 65) (k := 32) (v := .ref (X.1.2.1 32)) hx hb hts hown hK hW (by decide) rfl q1561 dX4_isSign_65 ?_
                refine lv_iload (pc := 68) hx hb dX4_isSign_68 (lv_at hl 4 rfl) ?_
                obtain ⟨h26, hd⟩ := wt_ck_o hd
                refine mr_row (pc := 70) (k := 32) hx hb hK hW rfl h26 dX4_isSign_70 ?_
                refine lv_iconst (pc := 71) (v := 2) hx hb dX4_isSign_71 (by decide) ?_
                obtain ⟨h27, hd⟩ := wt_ck_o hd
                refine mr_gld (pc := 72) (k := 32) (i := (v1.toNatClampNeg)) hx hb hK hW (vp_lt h26) rfl h27 dX4_isSign_72 ?_
                obtain ⟨h28, hd⟩ := wt_ck_o hd
                refine mr_gld (pc := 73) (k := 12) (i := (a0.toNatClampNeg)) hx hb hK hW (vp_lt h25) rfl h28 dX4_isSign_73 ?_
                refine lv_if_le (pc := 74) (tgt := 79) hx hb dX4_isSign_74 (by decide) (fun c29 => ?_) (fun c29 => ?_)
                · have hd := wt_it hd c29
                  obtain ⟨n30, en30, hd⟩ := wt_lt_o hd
                  refine lv_iinc (pc := 79) (k := 4) (v := n30) (lv' := [(4, .int n30), (0, .ref X.1.1), (1, .int a0), (2, .int a1), (3, .int a2)]) hx hb dX4_isSign_79 hl rfl en30.symm (by decide) rfl (fun ls hl => ?_)
                  refine lv_goto (pc := 82) (tgt := 3) hx hb dX4_isSign_82 (by decide) ?_
                  exact ih7 _ (wt_again hd hk6) _ _ _ hW hS (lv_sub hl [1, 2, 3, 4, 0] rfl)
                · have hd := wt_if hd c29
                  refine lv_iconst (pc := 77) (v := 1) hx hb dX4_isSign_77 (by decide) ?_
                  have hd := wt_rs_r (wt_exit hd hk6) hq4
                  exact mr_iret hx hb hr rfl hlocks (Option.some.inj hd) rfl hW hK hS dX4_isSign_78
              · have hd := wt_if hd c24
                refine lv_goto (pc := 55) (tgt := 79) hx hb dX4_isSign_55 (by decide) ?_
                obtain ⟨n31, en31, hd⟩ := wt_lt_o hd
                refine lv_iinc (pc := 79) (k := 4) (v := n31) (lv' := [(4, .int n31), (0, .ref X.1.1), (1, .int a0), (2, .int a1), (3, .int a2)]) hx hb dX4_isSign_79 hl rfl en31.symm (by decide) rfl (fun ls hl => ?_)
                refine lv_goto (pc := 82) (tgt := 3) hx hb dX4_isSign_82 (by decide) ?_
                exact ih7 _ (wt_again hd hk6) _ _ _ hW hS (lv_sub hl [1, 2, 3, 4, 0] rfl)
  obtain ⟨k9, hL3⟩ := wt_whC_o hL3
  exact hI10 k9 _ hL3 _ _ _ hW hS (lv_sub hl [1, 2, 3, 4, 0] rfl)
theorem kX4_isSign {p : Program} {l : Launch} {e : Env} {R : Room} {s : State} {m : MethodId} {args : Array Value} {below : List Frame} {meth : Method} {c : Code} {H : Heap} {locs : List Loc} {cells slots : Nat} {Q : State → Prop} {cc : ByteArray} {pc : Nat} {ls : Array Slot} {rest : List Value} {H0 : Heap} {nL : Nat} {X : MPar} {lo hi : Nat} {σ : MSt} {a0 : Int32} {a1 : Int32} {a2 : Int32} {out_ : Int32} (hx : p.tables.exec = Jvm.exec) (hb : c.code = cc) (hml : c.maxLocals = nL) (hown : s.vm.findClass RX4 = some m.cls) (hts : ∀ w ∈ lw_all, w.before args s = true) (hK : mK X s) (hJ : mJ X lo hi) (hW : mW X σ H) (hS : va_S (mA lo hi) H0 H locs) (hd : dX4_isSign σ a0 a1 a2 = some out_) (hsz : ls.size = nL) (hrm : (rest.map fun v => v.category).sum ≤ 8) (hR : 1 ≤ R.frames ∧ 24 ≤ R.locals) (hcs : cells ≤ R.cells ∧ slots ≤ R.slots) (hdg : decode cc pc = .ok (.invokevirtual 314, 3)) (kk : ∀ (H1 : Heap) (locs1 : List Loc), mW X σ H1 → va_S (mA lo hi) H0 H1 locs1 → W p l e R s m args below meth c H1 locs1 cells slots Q (F0 m (pc + 3) ls (.int out_ :: rest))) : W p l e R s m args below meth c H locs cells slots Q (F0 m pc ls (.int a2 :: .int a1 :: .int a0 :: .ref X.1.1 :: rest)) := by
  refine va_calli (va_runV (As := [.int a0, .int a1, .int a2]) (rest := rest) ⟨hx, hb, hml, hown, hts⟩ (wX4_isSign l hJ hd) (cwV 3 hts (lw_V q1988 q1990 qs64 q88 q1991) rfl rfl rfl (by decide +kernel) hR) (mr_pre hK hW) rfl rfl hsz rfl (lv_room hrm) hdg hcs) hS (fun _ _ h => h) (fun _ h => h) (fun r u t H1 locs1 ht hvm hp hB hz hk hS1 => ?_)
  have hp : r = out_ := hp
  subst hp
  have hW1 : mW X σ t.heap := hB.1
  rw [ht] at hW1
  exact kk H1 locs1 hW1 hS1
noncomputable def bX4_signs_1 (a0 : Int32) (a1 : Int32) (w20 : Int32 × MSt) (v26 : Int32 × Int32 × Int32) : Option ((Int32 × Int32 × Int32) ⊕ (Int32 × Int32)) :=
  if a1 ≤ v26.2.2 then (some (.inr (v26.1, v26.2.1))) else (wt_ck (vp_in (((20 : Int32) * a0) + v26.2.2) 80) <| wt_ck (vp_in (0 : Int32) 4) <| if (w20.2.2.2 26 (((((20 : Int32) * a0) + v26.2.2)).toNatClampNeg) (0 : Int32).toNatClampNeg) ≤ (1 : Int32) then (wt_ck (vp_in (1 : Int32) 4) <| wt_ck (vp_in (1 : Int32) 4) <| wt_bd (if (w20.2.2.2 26 (((((20 : Int32) * a0) + v26.2.2)).toNatClampNeg) (1 : Int32).toNatClampNeg) = (w20.2.2.2 26 (((((20 : Int32) * a0) + a1)).toNatClampNeg) (1 : Int32).toNatClampNeg) then (wt_ck (vp_in (0 : Int32) 4) <| if (w20.2.2.2 26 (((((20 : Int32) * a0) + v26.2.2)).toNatClampNeg) (0 : Int32).toNatClampNeg) = 0 then (wt_ck (vp_in (2 : Int32) 4) <| wt_lt ((w20.2.2.2 26 (((((20 : Int32) * a0) + v26.2.2)).toNatClampNeg) (2 : Int32).toNatClampNeg)) fun n50 => some (n50)) else (some (-1 : Int32))) else (some (v26.1))) fun w42 => wt_ck (vp_in (1 : Int32) 4) <| wt_ck (vp_in (2 : Int32) 4) <| if (w20.2.2.2 26 (((((20 : Int32) * a0) + v26.2.2)).toNatClampNeg) (1 : Int32).toNatClampNeg) = (w20.2.2.2 26 (((((20 : Int32) * a0) + a1)).toNatClampNeg) (2 : Int32).toNatClampNeg) then (wt_ck (vp_in (0 : Int32) 4) <| if (w20.2.2.2 26 (((((20 : Int32) * a0) + v26.2.2)).toNatClampNeg) (0 : Int32).toNatClampNeg) = 0 then (wt_ck (vp_in (2 : Int32) 4) <| wt_lt ((w20.2.2.2 26 (((((20 : Int32) * a0) + v26.2.2)).toNatClampNeg) (2 : Int32).toNatClampNeg)) fun n59 => wt_lt (v26.2.2 + (1 : Int32)) fun n60 => some (.inl (w42, n59, n60))) else (wt_lt (v26.2.2 + (1 : Int32)) fun n57 => some (.inl (w42, (-1 : Int32), n57)))) else (wt_lt (v26.2.2 + (1 : Int32)) fun n54 => some (.inl (w42, v26.2.1, n54)))) else (wt_lt (v26.2.2 + (1 : Int32)) fun n61 => some (.inl (v26.1, v26.2.1, n61))))
noncomputable def dX4_signs (σ : MSt) (a0 : Int32) (a1 : Int32) : Option (Int32 × MSt) :=
  wt_lt (m_sF σ 0 (0 : Int32)) fun σ1 => wt_bd (dX4_isStory σ1 a0) fun w2 => wt_bd (if w2 = 0 then (some (1 : Int32)) else (some (0 : Int32))) fun w4 => wt_bd (dX4_bad σ1 w4 (1 : Int32)) fun w9 => if w9.1 = 0 then (wt_ck (vp_in a0 4) <| wt_bd (dX4_in a1 (0 : Int32) ((w9.2.2.1 25 a0.toNatClampNeg) - (1 : Int32))) fun w13 => wt_bd (if w13 = 0 then (some (1 : Int32)) else (some (0 : Int32))) fun w15 => wt_bd (dX4_bad w9.2 w15 (2 : Int32)) fun w20 => if w20.1 = 0 then (wt_ck (vp_in (((20 : Int32) * a0) + a1) 80) <| wt_ck (vp_in (0 : Int32) 4) <| if (w20.2.2.2 26 (((((20 : Int32) * a0) + a1)).toNatClampNeg) (0 : Int32).toNatClampNeg) = (2 : Int32) then (wt_bd (wt_whC (bX4_signs_1 a0 a1 w20) ((-1 : Int32), (-1 : Int32), (0 : Int32))) fun w27 => wt_ck (vp_in (2 : Int32) 4) <| wt_ck (vp_in (3 : Int32) 4) <| wt_bd (dX4_isSign w20.2 w27.1 (w20.2.2.2 26 (((((20 : Int32) * a0) + a1)).toNatClampNeg) (2 : Int32).toNatClampNeg) (w20.2.2.2 26 (((((20 : Int32) * a0) + a1)).toNatClampNeg) (3 : Int32).toNatClampNeg)) fun w64 => wt_bd (if w64 = 0 then (some (0 : Int32)) else (some (1 : Int32))) fun w66 => wt_ck (vp_in (1 : Int32) 4) <| wt_ck (vp_in (3 : Int32) 4) <| wt_bd (dX4_isSign w20.2 w27.2 (w20.2.2.2 26 (((((20 : Int32) * a0) + a1)).toNatClampNeg) (1 : Int32).toNatClampNeg) (w20.2.2.2 26 (((((20 : Int32) * a0) + a1)).toNatClampNeg) (3 : Int32).toNatClampNeg)) fun w73 => if w73 = 0 then (some ((w66 + (0 : Int32)), w20.2)) else (some ((w66 + (2 : Int32)), w20.2))) else (some ((0 : Int32), w20.2))) else (some ((0 : Int32), w20.2))) else (some ((0 : Int32), w9.2))
set_option maxHeartbeats 4000000 in
theorem wX4_signs (l : Launch) {X : MPar} {lo hi : Nat} (hJ : mJ X lo hi) {σ : MSt} {a0 : Int32} {a1 : Int32} {out_ : Int32 × MSt} (hd : dX4_signs σ a0 a1 = some out_) : Met l yX4_signs (ws_ yX4_signs cX4_signs 8 (some .int)) ({ frames := 2, cells := 0, slots := 0, locals := 43 }) (mP X σ [.ref X.1.1, .int a0, .int a1]) (mQi X out_.1 out_.2 (mA lo hi)) 0 0 (mA lo hi) := by
  refine Met.ofW (cc := cX4_signs) (maxL := 8) (ret := (some .int)) (by decide) rfl ?_
  intro p_ e_ s_ m_ args_ below_ meth_ c_ s₁_ B hml hv
  obtain ⟨rfl, hW, hK⟩ := hv
  have hx := B.exec
  have hb := B.bytes
  have hr := B.returns
  have hts := atoms_spec (ws := (ws_ yX4_signs cX4_signs 8 (some .int))) B.pre
  have hts : ∀ w ∈ lw_all, w.before _ s_ = true := fun w h => hts w (List.mem_cons_of_mem _ h)
  have hown : s_.vm.findClass RX4 = some m_.cls := findClass_of_methodNamed B.named
  have hlocks := B.notSynchronized
  have hS : va_S (mA lo hi) s_.heap s_.heap [] := va_S.rf
  have hl := lv_entry ([.ref X.1.1, .int a0, .int a1]) (n := 8) (Nat.le_of_ble_eq_true rfl)
  rw [lg_entry_eq]
  generalize (lg_sl ([.ref X.1.1, .int a0, .int a1]) ++ List.replicate (8 - (lg_sl ([.ref X.1.1, .int a0, .int a1])).length) Slot.unset).toArray = ls at hl ⊢
  have hl : lv_has ls 8 [(0, .ref X.1.1), (1, .int a0), (2, .int a1)] := hl
  unfold dX4_signs at hd
  refine lv_aload_n (pc := 0) hx hb dX4_signs_0 rfl (lv_at hl 0 rfl) ?_
  refine lv_iconst (pc := 1) (v := 0) hx hb dX4_signs_1 (by decide) ?_
  obtain ⟨σ1, eσ1, hd⟩ := wt_lt_o hd
  refine mr_put (pc := 2) (k := 0) hx hb hts hown hK hW hJ hS (by decide) rfl eσ1 q1529 dX4_signs_2 (fun H locs hW hS => ?_)
  refine lv_aload_n (pc := 5) hx hb dX4_signs_5 rfl (lv_at hl 0 rfl) ?_
  refine lv_aload_n (pc := 6) hx hb dX4_signs_6 rfl (lv_at hl 0 rfl) ?_
  refine lv_iload_n (pc := 7) hx hb dX4_signs_7 rfl (lv_at hl 1 rfl) ?_
  obtain ⟨w2, hc3, hd⟩ := wt_bd_o hd
  refine kX4_isStory (pc := 8) hx hb hml hown hts hK hJ hW hS hc3 hl.1 (Nat.le_of_ble_eq_true rfl) ⟨Nat.le_of_ble_eq_true rfl, Nat.le_of_ble_eq_true rfl⟩ ⟨Nat.le_refl _, Nat.le_refl _⟩ dX4_signs_8 (fun H locs hW hS => ?_)
  obtain ⟨w4, hj5, hq6⟩ := wt_bd_o hd
  have hX7 : ∀ w4_ : Int32, w4_ = w4 → ∀ (H : Heap) (locs : List Loc) (ls : Array Slot), mW X σ1 H → va_S (mA lo hi) s_.heap H locs → lv_has ls 8 [(0, .ref X.1.1), (1, .int a0), (2, .int a1)] → W p_ l e_ (headSpec (ws_ yX4_signs cX4_signs 8 (some .int)) ({ frames := 2, cells := 0, slots := 0, locals := 43 })).room s_ m_ ([.ref X.1.1, .int a0, .int a1] : List Value).toArray below_ meth_ c_ H locs 0 0 (MQ below_ (mQi X out_.1 out_.2 (mA lo hi)) ([.ref X.1.1, .int a0, .int a1] : List Value).toArray s_ 0 0 (mA lo hi)) (F0 m_ 19 ls [.int w4_, .ref X.1.1]) := by
    intro w4_ hw_
    have hd := hq6
    subst hw_
    clear hj5 hq6
    intro H locs ls hW hS hl
    refine lv_iconst (pc := 19) (v := 1) hx hb dX4_signs_19 (by decide) ?_
    obtain ⟨w9, hc10, hd⟩ := wt_bd_o hd
    refine kX4_bad (pc := 20) hx hb hml hown hts hK hJ hW hS hc10 hl.1 (Nat.le_of_ble_eq_true rfl) ⟨Nat.le_of_ble_eq_true rfl, Nat.le_of_ble_eq_true rfl⟩ ⟨Nat.le_refl _, Nat.le_refl _⟩ dX4_signs_20 (fun H locs hW hS => ?_)
    refine lv_if_ne (pc := 23) (tgt := 55) hx hb dX4_signs_23 (by decide) (fun c11 => ?_) (fun c11 => ?_)
    · have hd := wt_if hd c11
      refine lv_iconst (pc := 55) (v := 0) hx hb dX4_signs_55 (by decide) ?_
      exact mr_iret hx hb hr rfl hlocks (wt_p1 hd) (wt_p2 hd) hW hK hS dX4_signs_56
    · have hd := wt_it hd c11
      refine lv_aload_n (pc := 26) hx hb dX4_signs_26 rfl (lv_at hl 0 rfl) ?_
      refine lv_iload_n (pc := 27) hx hb dX4_signs_27 rfl (lv_at hl 2 rfl) ?_
      refine lv_iconst (pc := 28) (v := 0) hx hb dX4_signs_28 (by decide) ?_
      refine lv_aload_n (pc := 29) hx hb dX4_signs_29 rfl (lv_at hl 0 rfl) ?_
      refine mr_get (pc := 30) (k := 25) (v := .ref (X.1.2.1 25)) hx hb hts hown hK hW (by decide) rfl q1554 dX4_signs_30 ?_
      refine lv_iload_n (pc := 33) hx hb dX4_signs_33 rfl (lv_at hl 1 rfl) ?_
      obtain ⟨h12, hd⟩ := wt_ck_o hd
      refine mr_ald (pc := 34) (k := 25) hx hb hK hW rfl h12 dX4_signs_34 ?_
      refine lv_iconst (pc := 35) (v := 1) hx hb dX4_signs_35 (by decide) ?_
      refine lv_isub (pc := 36) hx hb dX4_signs_36 ?_
      obtain ⟨w13, hc14, hd⟩ := wt_bd_o hd
      refine kX4_in (pc := 37) hx hb hml hown hts hK hW hS hc14 hl.1 (Nat.le_of_ble_eq_true rfl) ⟨Nat.le_of_ble_eq_true rfl, Nat.le_of_ble_eq_true rfl⟩ ⟨Nat.le_refl _, Nat.le_refl _⟩ dX4_signs_37 (fun H locs hW hS => ?_)
      obtain ⟨w15, hj16, hq17⟩ := wt_bd_o hd
      have hX18 : ∀ w15_ : Int32, w15_ = w15 → ∀ (H : Heap) (locs : List Loc) (ls : Array Slot), mW X w9.2 H → va_S (mA lo hi) s_.heap H locs → lv_has ls 8 [(0, .ref X.1.1), (1, .int a0), (2, .int a1)] → W p_ l e_ (headSpec (ws_ yX4_signs cX4_signs 8 (some .int)) ({ frames := 2, cells := 0, slots := 0, locals := 43 })).room s_ m_ ([.ref X.1.1, .int a0, .int a1] : List Value).toArray below_ meth_ c_ H locs 0 0 (MQ below_ (mQi X out_.1 out_.2 (mA lo hi)) ([.ref X.1.1, .int a0, .int a1] : List Value).toArray s_ 0 0 (mA lo hi)) (F0 m_ 48 ls [.int w15_, .ref X.1.1]) := by
        intro w15_ hw_
        have hd := hq17
        subst hw_
        clear hj16 hq17
        intro H locs ls hW hS hl
        refine lv_iconst (pc := 48) (v := 2) hx hb dX4_signs_48 (by decide) ?_
        obtain ⟨w20, hc21, hd⟩ := wt_bd_o hd
        refine kX4_bad (pc := 49) hx hb hml hown hts hK hJ hW hS hc21 hl.1 (Nat.le_of_ble_eq_true rfl) ⟨Nat.le_of_ble_eq_true rfl, Nat.le_of_ble_eq_true rfl⟩ ⟨Nat.le_refl _, Nat.le_refl _⟩ dX4_signs_49 (fun H locs hW hS => ?_)
        refine lv_if_eq (pc := 52) (tgt := 57) hx hb dX4_signs_52 (by decide) (fun c22 => ?_) (fun c22 => ?_)
        · have hd := wt_it hd c22
          refine lv_aload_n (pc := 57) hx hb dX4_signs_57 rfl (lv_at hl 0 rfl) ?_
          refine mr_get (pc := 58) (k := 26) (v := .ref (X.1.2.1 26)) hx hb hts hown hK hW (by decide) rfl q1555 dX4_signs_58 ?_
          refine lv_bipush (pc := 61) (v := 20) hx hb dX4_signs_61 (by decide) ?_
          refine lv_iload_n (pc := 63) hx hb dX4_signs_63 rfl (lv_at hl 1 rfl) ?_
          refine lv_imul (pc := 64) hx hb dX4_signs_64 ?_
          refine lv_iload_n (pc := 65) hx hb dX4_signs_65 rfl (lv_at hl 2 rfl) ?_
          refine lv_iadd (pc := 66) hx hb dX4_signs_66 ?_
          obtain ⟨h23, hd⟩ := wt_ck_o hd
          refine mr_row (pc := 67) (k := 26) hx hb hK hW rfl h23 dX4_signs_67 ?_
          refine lv_astore_n (pc := 68) (lv' := [(3, .ref (X.1.2.2 26 (((((20 : Int32) * a0) + a1)).toNatClampNeg))), (0, .ref X.1.1), (1, .int a0), (2, .int a1)]) hx hb dX4_signs_68 rfl hl (by decide) rfl (fun ls hl => ?_)
          refine lv_aload_n (pc := 69) hx hb dX4_signs_69 rfl (lv_at hl 0 rfl) ?_
          refine lv_iconst (pc := 70) (v := 0) hx hb dX4_signs_70 (by decide) ?_
          obtain ⟨h24, hd⟩ := wt_ck_o hd
          refine mr_gld (pc := 71) (k := 26) (i := (((((20 : Int32) * a0) + a1)).toNatClampNeg)) hx hb hK hW (vp_lt h23) rfl h24 dX4_signs_71 ?_
          refine lv_iconst (pc := 72) (v := 2) hx hb dX4_signs_72 (by decide) ?_
          refine lv_icmp_eq (pc := 73) (tgt := 78) hx hb dX4_signs_73 (by decide) (fun c25 => ?_) (fun c25 => ?_)
          · have hd := wt_it hd c25
            refine lv_iconst (pc := 78) (v := -1) hx hb dX4_signs_78 (by decide) ?_
            refine lv_istore (pc := 79) (lv' := [(4, .int (-1 : Int32)), (3, .ref (X.1.2.2 26 (((((20 : Int32) * a0) + a1)).toNatClampNeg))), (0, .ref X.1.1), (1, .int a0), (2, .int a1)]) hx hb dX4_signs_79 hl (by decide) rfl (fun ls hl => ?_)
            refine lv_iconst (pc := 81) (v := -1) hx hb dX4_signs_81 (by decide) ?_
            refine lv_istore (pc := 82) (lv' := [(5, .int (-1 : Int32)), (4, .int (-1 : Int32)), (3, .ref (X.1.2.2 26 (((((20 : Int32) * a0) + a1)).toNatClampNeg))), (0, .ref X.1.1), (1, .int a0), (2, .int a1)]) hx hb dX4_signs_82 hl (by decide) rfl (fun ls hl => ?_)
            refine lv_iconst (pc := 84) (v := 0) hx hb dX4_signs_84 (by decide) ?_
            refine lv_istore (pc := 85) (lv' := [(6, .int (0 : Int32)), (5, .int (-1 : Int32)), (4, .int (-1 : Int32)), (3, .ref (X.1.2.2 26 (((((20 : Int32) * a0) + a1)).toNatClampNeg))), (0, .ref X.1.1), (1, .int a0), (2, .int a1)]) hx hb dX4_signs_85 hl (by decide) rfl (fun ls hl => ?_)
            obtain ⟨w27, hL28, hq29⟩ := wt_bd_o hd
            have hX30 : ∀ w27_ : Int32 × Int32, w27_ = w27 → ∀ (H : Heap) (locs : List Loc) (ls : Array Slot), mW X w20.2 H → va_S (mA lo hi) s_.heap H locs → lv_has ls 8 [(0, .ref X.1.1), (3, .ref (X.1.2.2 26 (((((20 : Int32) * a0) + a1)).toNatClampNeg))), (4, .int w27_.1), (5, .int w27_.2)] → W p_ l e_ (headSpec (ws_ yX4_signs cX4_signs 8 (some .int)) ({ frames := 2, cells := 0, slots := 0, locals := 43 })).room s_ m_ ([.ref X.1.1, .int a0, .int a1] : List Value).toArray below_ meth_ c_ H locs 0 0 (MQ below_ (mQi X out_.1 out_.2 (mA lo hi)) ([.ref X.1.1, .int a0, .int a1] : List Value).toArray s_ 0 0 (mA lo hi)) (F0 m_ 178 ls []) := by
              intro w27_ hw_
              have hd := hq29
              subst hw_
              clear hL28 hq29
              intro H locs ls hW hS hl
              refine lv_aload_n (pc := 178) hx hb dX4_signs_178 rfl (lv_at hl 0 rfl) ?_
              refine lv_iload (pc := 179) hx hb dX4_signs_179 (lv_at hl 2 rfl) ?_
              refine lv_aload_n (pc := 181) hx hb dX4_signs_181 rfl (lv_at hl 1 rfl) ?_
              refine lv_iconst (pc := 182) (v := 2) hx hb dX4_signs_182 (by decide) ?_
              obtain ⟨h62, hd⟩ := wt_ck_o hd
              refine mr_gld (pc := 183) (k := 26) (i := (((((20 : Int32) * a0) + a1)).toNatClampNeg)) hx hb hK hW (vp_lt h23) rfl h62 dX4_signs_183 ?_
              refine lv_aload_n (pc := 184) hx hb dX4_signs_184 rfl (lv_at hl 1 rfl) ?_
              refine lv_iconst (pc := 185) (v := 3) hx hb dX4_signs_185 (by decide) ?_
              obtain ⟨h63, hd⟩ := wt_ck_o hd
              refine mr_gld (pc := 186) (k := 26) (i := (((((20 : Int32) * a0) + a1)).toNatClampNeg)) hx hb hK hW (vp_lt h23) rfl h63 dX4_signs_186 ?_
              obtain ⟨w64, hc65, hd⟩ := wt_bd_o hd
              refine kX4_isSign (pc := 187) hx hb hml hown hts hK hJ hW hS hc65 hl.1 (Nat.le_of_ble_eq_true rfl) ⟨Nat.le_of_ble_eq_true rfl, Nat.le_of_ble_eq_true rfl⟩ ⟨Nat.le_refl _, Nat.le_refl _⟩ dX4_signs_187 (fun H locs hW hS => ?_)
              obtain ⟨w66, hj67, hq68⟩ := wt_bd_o hd
              have hX69 : ∀ w66_ : Int32, w66_ = w66 → ∀ (H : Heap) (locs : List Loc) (ls : Array Slot), mW X w20.2 H → va_S (mA lo hi) s_.heap H locs → lv_has ls 8 [(0, .ref X.1.1), (3, .ref (X.1.2.2 26 (((((20 : Int32) * a0) + a1)).toNatClampNeg))), (5, .int w27_.2)] → W p_ l e_ (headSpec (ws_ yX4_signs cX4_signs 8 (some .int)) ({ frames := 2, cells := 0, slots := 0, locals := 43 })).room s_ m_ ([.ref X.1.1, .int a0, .int a1] : List Value).toArray below_ meth_ c_ H locs 0 0 (MQ below_ (mQi X out_.1 out_.2 (mA lo hi)) ([.ref X.1.1, .int a0, .int a1] : List Value).toArray s_ 0 0 (mA lo hi)) (F0 m_ 198 ls [.int w66_]) := by
                intro w66_ hw_
                have hd := hq68
                subst hw_
                clear hj67 hq68
                intro H locs ls hW hS hl
                refine lv_aload_n (pc := 198) hx hb dX4_signs_198 rfl (lv_at hl 0 rfl) ?_
                refine lv_iload (pc := 199) hx hb dX4_signs_199 (lv_at hl 2 rfl) ?_
                refine lv_aload_n (pc := 201) hx hb dX4_signs_201 rfl (lv_at hl 1 rfl) ?_
                refine lv_iconst (pc := 202) (v := 1) hx hb dX4_signs_202 (by decide) ?_
                obtain ⟨h71, hd⟩ := wt_ck_o hd
                refine mr_gld (pc := 203) (k := 26) (i := (((((20 : Int32) * a0) + a1)).toNatClampNeg)) hx hb hK hW (vp_lt h23) rfl h71 dX4_signs_203 ?_
                refine lv_aload_n (pc := 204) hx hb dX4_signs_204 rfl (lv_at hl 1 rfl) ?_
                refine lv_iconst (pc := 205) (v := 3) hx hb dX4_signs_205 (by decide) ?_
                obtain ⟨h72, hd⟩ := wt_ck_o hd
                refine mr_gld (pc := 206) (k := 26) (i := (((((20 : Int32) * a0) + a1)).toNatClampNeg)) hx hb hK hW (vp_lt h23) rfl h72 dX4_signs_206 ?_
                obtain ⟨w73, hc74, hd⟩ := wt_bd_o hd
                refine kX4_isSign (pc := 207) hx hb hml hown hts hK hJ hW hS hc74 hl.1 (Nat.le_of_ble_eq_true rfl) ⟨Nat.le_of_ble_eq_true rfl, Nat.le_of_ble_eq_true rfl⟩ ⟨Nat.le_refl _, Nat.le_refl _⟩ dX4_signs_207 (fun H locs hW hS => ?_)
                refine lv_if_eq (pc := 210) (tgt := 217) hx hb dX4_signs_210 (by decide) (fun c75 => ?_) (fun c75 => ?_)
                · have hd := wt_it hd c75
                  refine lv_iconst (pc := 217) (v := 0) hx hb dX4_signs_217 (by decide) ?_
                  refine lv_iadd (pc := 218) hx hb dX4_signs_218 ?_
                  exact mr_iret hx hb hr rfl hlocks (wt_p1 hd) (wt_p2 hd) hW hK hS dX4_signs_219
                · have hd := wt_if hd c75
                  refine lv_iconst (pc := 213) (v := 2) hx hb dX4_signs_213 (by decide) ?_
                  refine lv_goto (pc := 214) (tgt := 218) hx hb dX4_signs_214 (by decide) ?_
                  refine lv_iadd (pc := 218) hx hb dX4_signs_218 ?_
                  exact mr_iret hx hb hr rfl hlocks (wt_p1 hd) (wt_p2 hd) hW hK hS dX4_signs_219
              have hd := hj67
              refine lv_if_eq (pc := 190) (tgt := 197) hx hb dX4_signs_190 (by decide) (fun c70 => ?_) (fun c70 => ?_)
              · have hd := wt_it hd c70
                refine lv_iconst (pc := 197) (v := 0) hx hb dX4_signs_197 (by decide) ?_
                exact hX69 (0 : Int32) (Option.some.inj hd) _ _ _ hW hS (lv_sub hl [0, 1, 3] rfl)
              · have hd := wt_if hd c70
                refine lv_iconst (pc := 193) (v := 1) hx hb dX4_signs_193 (by decide) ?_
                refine lv_goto (pc := 194) (tgt := 198) hx hb dX4_signs_194 (by decide) ?_
                exact hX69 (1 : Int32) (Option.some.inj hd) _ _ _ hW hS (lv_sub hl [0, 1, 3] rfl)
            have hI35 : ∀ (k34 : Nat) (v26 : Int32 × Int32 × Int32), wt_wh (bX4_signs_1 a0 a1 w20) k34 v26 = some w27 → ∀ (H : Heap) (locs : List Loc) (ls : Array Slot), mW X w20.2 H → va_S (mA lo hi) s_.heap H locs → lv_has ls 8 [(0, .ref X.1.1), (1, .int a0), (2, .int a1), (3, .ref (X.1.2.2 26 (((((20 : Int32) * a0) + a1)).toNatClampNeg))), (4, .int v26.1), (5, .int v26.2.1), (6, .int v26.2.2)] → W p_ l e_ (headSpec (ws_ yX4_signs cX4_signs 8 (some .int)) ({ frames := 2, cells := 0, slots := 0, locals := 43 })).room s_ m_ ([.ref X.1.1, .int a0, .int a1] : List Value).toArray below_ meth_ c_ H locs 0 0 (MQ below_ (mQi X out_.1 out_.2 (mA lo hi)) ([.ref X.1.1, .int a0, .int a1] : List Value).toArray s_ 0 0 (mA lo hi)) (F0 m_ 87 ls []) := by
              intro k34
              induction k34 with
              | zero => intro v26 hd; exact absurd hd wt_wh_z
              | succ k34 ih32 =>
                intro v26 hd
                intro H locs ls hW hS hl
                obtain ⟨r33, hd, hk31⟩ := wt_wh_o hd
                unfold bX4_signs_1 at hd
                refine lv_iload (pc := 87) hx hb dX4_signs_87 (lv_at hl 6 rfl) ?_
                refine lv_iload_n (pc := 89) hx hb dX4_signs_89 rfl (lv_at hl 2 rfl) ?_
                refine lv_icmp_ge (pc := 90) (tgt := 178) hx hb dX4_signs_90 (by decide) (fun c36 => ?_) (fun c36 => ?_)
                · have hd := wt_it hd c36
                  exact hX30 (v26.1, v26.2.1) (wt_exit hd hk31) _ _ _ hW hS (lv_sub hl [0, 3, 4, 5] rfl)
                · have hd := wt_if hd c36
                  refine lv_aload_n (pc := 93) hx hb dX4_signs_93 rfl (lv_at hl 0 rfl) ?_
                  refine mr_get (pc := 94) (k := 26) (v := .ref (X.1.2.1 26)) hx hb hts hown hK hW (by decide) rfl q1555 dX4_signs_94 ?_
                  refine lv_bipush (pc := 97) (v := 20) hx hb dX4_signs_97 (by decide) ?_
                  refine lv_iload_n (pc := 99) hx hb dX4_signs_99 rfl (lv_at hl 1 rfl) ?_
                  refine lv_imul (pc := 100) hx hb dX4_signs_100 ?_
                  refine lv_iload (pc := 101) hx hb dX4_signs_101 (lv_at hl 6 rfl) ?_
                  refine lv_iadd (pc := 103) hx hb dX4_signs_103 ?_
                  obtain ⟨h37, hd⟩ := wt_ck_o hd
                  refine mr_row (pc := 104) (k := 26) hx hb hK hW rfl h37 dX4_signs_104 ?_
                  refine lv_astore (pc := 105) (lv' := [(7, .ref (X.1.2.2 26 (((((20 : Int32) * a0) + v26.2.2)).toNatClampNeg))), (0, .ref X.1.1), (1, .int a0), (2, .int a1), (3, .ref (X.1.2.2 26 (((((20 : Int32) * a0) + a1)).toNatClampNeg))), (4, .int v26.1), (5, .int v26.2.1), (6, .int v26.2.2)]) hx hb dX4_signs_105 hl (by decide) rfl (fun ls hl => ?_)
                  refine lv_aload (pc := 107) hx hb dX4_signs_107 (lv_at hl 0 rfl) ?_
                  refine lv_iconst (pc := 109) (v := 0) hx hb dX4_signs_109 (by decide) ?_
                  obtain ⟨h38, hd⟩ := wt_ck_o hd
                  refine mr_gld (pc := 110) (k := 26) (i := (((((20 : Int32) * a0) + v26.2.2)).toNatClampNeg)) hx hb hK hW (vp_lt h37) rfl h38 dX4_signs_110 ?_
                  refine lv_iconst (pc := 111) (v := 1) hx hb dX4_signs_111 (by decide) ?_
                  refine lv_icmp_le (pc := 112) (tgt := 118) hx hb dX4_signs_112 (by decide) (fun c39 => ?_) (fun c39 => ?_)
                  · have hd := wt_it hd c39
                    refine lv_aload (pc := 118) hx hb dX4_signs_118 (lv_at hl 0 rfl) ?_
                    refine lv_iconst (pc := 120) (v := 1) hx hb dX4_signs_120 (by decide) ?_
                    obtain ⟨h40, hd⟩ := wt_ck_o hd
                    refine mr_gld (pc := 121) (k := 26) (i := (((((20 : Int32) * a0) + v26.2.2)).toNatClampNeg)) hx hb hK hW (vp_lt h37) rfl h40 dX4_signs_121 ?_
                    refine lv_aload_n (pc := 122) hx hb dX4_signs_122 rfl (lv_at hl 4 rfl) ?_
                    refine lv_iconst (pc := 123) (v := 1) hx hb dX4_signs_123 (by decide) ?_
                    obtain ⟨h41, hd⟩ := wt_ck_o hd
                    refine mr_gld (pc := 124) (k := 26) (i := (((((20 : Int32) * a0) + a1)).toNatClampNeg)) hx hb hK hW (vp_lt h23) rfl h41 dX4_signs_124 ?_
                    obtain ⟨w42, hj43, hq44⟩ := wt_bd_o hd
                    have hX45 : ∀ w42_ : Int32, w42_ = w42 → ∀ (H : Heap) (locs : List Loc) (ls : Array Slot), mW X w20.2 H → va_S (mA lo hi) s_.heap H locs → lv_has ls 8 [(0, .ref X.1.1), (1, .int a0), (2, .int a1), (3, .ref (X.1.2.2 26 (((((20 : Int32) * a0) + a1)).toNatClampNeg))), (4, .int w42_), (5, .int v26.2.1), (6, .int v26.2.2), (7, .ref (X.1.2.2 26 (((((20 : Int32) * a0) + v26.2.2)).toNatClampNeg)))] → W p_ l e_ (headSpec (ws_ yX4_signs cX4_signs 8 (some .int)) ({ frames := 2, cells := 0, slots := 0, locals := 43 })).room s_ m_ ([.ref X.1.1, .int a0, .int a1] : List Value).toArray below_ meth_ c_ H locs 0 0 (MQ below_ (mQi X out_.1 out_.2 (mA lo hi)) ([.ref X.1.1, .int a0, .int a1] : List Value).toArray s_ 0 0 (mA lo hi)) (F0 m_ 145 ls []) := by
                      intro w42_ hw_
                      have hd := hq44
                      subst hw_
                      clear hj43 hq44
                      intro H locs ls hW hS hl
                      refine lv_aload (pc := 145) hx hb dX4_signs_145 (lv_at hl 7 rfl) ?_
                      refine lv_iconst (pc := 147) (v := 1) hx hb dX4_signs_147 (by decide) ?_
                      obtain ⟨h51, hd⟩ := wt_ck_o hd
                      refine mr_gld (pc := 148) (k := 26) (i := (((((20 : Int32) * a0) + v26.2.2)).toNatClampNeg)) hx hb hK hW (vp_lt h37) rfl h51 dX4_signs_148 ?_
                      refine lv_aload_n (pc := 149) hx hb dX4_signs_149 rfl (lv_at hl 3 rfl) ?_
                      refine lv_iconst (pc := 150) (v := 2) hx hb dX4_signs_150 (by decide) ?_
                      obtain ⟨h52, hd⟩ := wt_ck_o hd
                      refine mr_gld (pc := 151) (k := 26) (i := (((((20 : Int32) * a0) + a1)).toNatClampNeg)) hx hb hK hW (vp_lt h23) rfl h52 dX4_signs_151 ?_
                      refine lv_icmp_ne (pc := 152) (tgt := 172) hx hb dX4_signs_152 (by decide) (fun c53 => ?_) (fun c53 => ?_)
                      · have hd := wt_if hd c53
                        obtain ⟨n54, en54, hd⟩ := wt_lt_o hd
                        refine lv_iinc (pc := 172) (k := 6) (v := n54) (lv' := [(6, .int n54), (0, .ref X.1.1), (1, .int a0), (2, .int a1), (3, .ref (X.1.2.2 26 (((((20 : Int32) * a0) + a1)).toNatClampNeg))), (4, .int w42_), (5, .int v26.2.1), (7, .ref (X.1.2.2 26 (((((20 : Int32) * a0) + v26.2.2)).toNatClampNeg)))]) hx hb dX4_signs_172 hl rfl en54.symm (by decide) rfl (fun ls hl => ?_)
                        refine lv_goto (pc := 175) (tgt := 87) hx hb dX4_signs_175 (by decide) ?_
                        exact ih32 _ (wt_again hd hk31) _ _ _ hW hS (lv_sub hl [1, 2, 3, 4, 5, 6, 0] rfl)
                      · have hd := wt_it hd c53
                        refine lv_aload (pc := 155) hx hb dX4_signs_155 (lv_at hl 7 rfl) ?_
                        refine lv_iconst (pc := 157) (v := 0) hx hb dX4_signs_157 (by decide) ?_
                        obtain ⟨h55, hd⟩ := wt_ck_o hd
                        refine mr_gld (pc := 158) (k := 26) (i := (((((20 : Int32) * a0) + v26.2.2)).toNatClampNeg)) hx hb hK hW (vp_lt h37) rfl h55 dX4_signs_158 ?_
                        refine lv_if_ne (pc := 159) (tgt := 169) hx hb dX4_signs_159 (by decide) (fun c56 => ?_) (fun c56 => ?_)
                        · have hd := wt_if hd c56
                          refine lv_iconst (pc := 169) (v := -1) hx hb dX4_signs_169 (by decide) ?_
                          refine lv_istore (pc := 170) (lv' := [(5, .int (-1 : Int32)), (0, .ref X.1.1), (1, .int a0), (2, .int a1), (3, .ref (X.1.2.2 26 (((((20 : Int32) * a0) + a1)).toNatClampNeg))), (4, .int w42_), (6, .int v26.2.2), (7, .ref (X.1.2.2 26 (((((20 : Int32) * a0) + v26.2.2)).toNatClampNeg)))]) hx hb dX4_signs_170 hl (by decide) rfl (fun ls hl => ?_)
                          obtain ⟨n57, en57, hd⟩ := wt_lt_o hd
                          refine lv_iinc (pc := 172) (k := 6) (v := n57) (lv' := [(6, .int n57), (5, .int (-1 : Int32)), (0, .ref X.1.1), (1, .int a0), (2, .int a1), (3, .ref (X.1.2.2 26 (((((20 : Int32) * a0) + a1)).toNatClampNeg))), (4, .int w42_), (7, .ref (X.1.2.2 26 (((((20 : Int32) * a0) + v26.2.2)).toNatClampNeg)))]) hx hb dX4_signs_172 hl rfl en57.symm (by decide) rfl (fun ls hl => ?_)
                          refine lv_goto (pc := 175) (tgt := 87) hx hb dX4_signs_175 (by decide) ?_
                          exact ih32 _ (wt_again hd hk31) _ _ _ hW hS (lv_sub hl [2, 3, 4, 5, 6, 1, 0] rfl)
                        · have hd := wt_it hd c56
                          refine lv_aload (pc := 162) hx hb dX4_signs_162 (lv_at hl 7 rfl) ?_
                          refine lv_iconst (pc := 164) (v := 2) hx hb dX4_signs_164 (by decide) ?_
                          obtain ⟨h58, hd⟩ := wt_ck_o hd
                          refine mr_gld (pc := 165) (k := 26) (i := (((((20 : Int32) * a0) + v26.2.2)).toNatClampNeg)) hx hb hK hW (vp_lt h37) rfl h58 dX4_signs_165 ?_
                          refine lv_goto (pc := 166) (tgt := 170) hx hb dX4_signs_166 (by decide) ?_
                          obtain ⟨n59, en59, hd⟩ := wt_lt_o hd
                          refine lv_tope en59 ?_
                          refine lv_istore (pc := 170) (lv' := [(5, .int n59), (0, .ref X.1.1), (1, .int a0), (2, .int a1), (3, .ref (X.1.2.2 26 (((((20 : Int32) * a0) + a1)).toNatClampNeg))), (4, .int w42_), (6, .int v26.2.2), (7, .ref (X.1.2.2 26 (((((20 : Int32) * a0) + v26.2.2)).toNatClampNeg)))]) hx hb dX4_signs_170 hl (by decide) rfl (fun ls hl => ?_)
                          obtain ⟨n60, en60, hd⟩ := wt_lt_o hd
                          refine lv_iinc (pc := 172) (k := 6) (v := n60) (lv' := [(6, .int n60), (5, .int n59), (0, .ref X.1.1), (1, .int a0), (2, .int a1), (3, .ref (X.1.2.2 26 (((((20 : Int32) * a0) + a1)).toNatClampNeg))), (4, .int w42_), (7, .ref (X.1.2.2 26 (((((20 : Int32) * a0) + v26.2.2)).toNatClampNeg)))]) hx hb dX4_signs_172 hl rfl en60.symm (by decide) rfl (fun ls hl => ?_)
                          refine lv_goto (pc := 175) (tgt := 87) hx hb dX4_signs_175 (by decide) ?_
                          exact ih32 _ (wt_again hd hk31) _ _ _ hW hS (lv_sub hl [2, 3, 4, 5, 6, 1, 0] rfl)
                    have hd := hj43
                    refine lv_icmp_ne (pc := 125) (tgt := 145) hx hb dX4_signs_125 (by decide) (fun c46 => ?_) (fun c46 => ?_)
                    · have hd := wt_if hd c46
                      exact hX45 v26.1 (Option.some.inj hd) _ _ _ hW hS (lv_sub hl [1, 2, 3, 4, 5, 6, 7, 0] rfl)
                    · have hd := wt_it hd c46
                      refine lv_aload (pc := 128) hx hb dX4_signs_128 (lv_at hl 0 rfl) ?_
                      refine lv_iconst (pc := 130) (v := 0) hx hb dX4_signs_130 (by decide) ?_
                      obtain ⟨h47, hd⟩ := wt_ck_o hd
                      refine mr_gld (pc := 131) (k := 26) (i := (((((20 : Int32) * a0) + v26.2.2)).toNatClampNeg)) hx hb hK hW (vp_lt h37) rfl h47 dX4_signs_131 ?_
                      refine lv_if_ne (pc := 132) (tgt := 142) hx hb dX4_signs_132 (by decide) (fun c48 => ?_) (fun c48 => ?_)
                      · have hd := wt_if hd c48
                        refine lv_iconst (pc := 142) (v := -1) hx hb dX4_signs_142 (by decide) ?_
                        refine lv_istore (pc := 143) (lv' := [(4, .int (-1 : Int32)), (7, .ref (X.1.2.2 26 (((((20 : Int32) * a0) + v26.2.2)).toNatClampNeg))), (0, .ref X.1.1), (1, .int a0), (2, .int a1), (3, .ref (X.1.2.2 26 (((((20 : Int32) * a0) + a1)).toNatClampNeg))), (5, .int v26.2.1), (6, .int v26.2.2)]) hx hb dX4_signs_143 hl (by decide) rfl (fun ls hl => ?_)
                        exact hX45 (-1 : Int32) (Option.some.inj hd) _ _ _ hW hS (lv_sub hl [2, 3, 4, 5, 0, 6, 7, 1] rfl)
                      · have hd := wt_it hd c48
                        refine lv_aload (pc := 135) hx hb dX4_signs_135 (lv_at hl 0 rfl) ?_
                        refine lv_iconst (pc := 137) (v := 2) hx hb dX4_signs_137 (by decide) ?_
                        obtain ⟨h49, hd⟩ := wt_ck_o hd
                        refine mr_gld (pc := 138) (k := 26) (i := (((((20 : Int32) * a0) + v26.2.2)).toNatClampNeg)) hx hb hK hW (vp_lt h37) rfl h49 dX4_signs_138 ?_
                        refine lv_goto (pc := 139) (tgt := 143) hx hb dX4_signs_139 (by decide) ?_
                        obtain ⟨n50, en50, hd⟩ := wt_lt_o hd
                        refine lv_tope en50 ?_
                        refine lv_istore (pc := 143) (lv' := [(4, .int n50), (7, .ref (X.1.2.2 26 (((((20 : Int32) * a0) + v26.2.2)).toNatClampNeg))), (0, .ref X.1.1), (1, .int a0), (2, .int a1), (3, .ref (X.1.2.2 26 (((((20 : Int32) * a0) + a1)).toNatClampNeg))), (5, .int v26.2.1), (6, .int v26.2.2)]) hx hb dX4_signs_143 hl (by decide) rfl (fun ls hl => ?_)
                        exact hX45 n50 (Option.some.inj hd) _ _ _ hW hS (lv_sub hl [2, 3, 4, 5, 0, 6, 7, 1] rfl)
                  · have hd := wt_if hd c39
                    refine lv_goto (pc := 115) (tgt := 172) hx hb dX4_signs_115 (by decide) ?_
                    obtain ⟨n61, en61, hd⟩ := wt_lt_o hd
                    refine lv_iinc (pc := 172) (k := 7) (v := n61) (lv' := [(6, .int n61), (7, .ref (X.1.2.2 26 (((((20 : Int32) * a0) + v26.2.2)).toNatClampNeg))), (0, .ref X.1.1), (1, .int a0), (2, .int a1), (3, .ref (X.1.2.2 26 (((((20 : Int32) * a0) + a1)).toNatClampNeg))), (4, .int v26.1), (5, .int v26.2.1)]) hx hb dX4_signs_172 hl rfl en61.symm (by decide) rfl (fun ls hl => ?_)
                    refine lv_goto (pc := 175) (tgt := 87) hx hb dX4_signs_175 (by decide) ?_
                    exact ih32 _ (wt_again hd hk31) _ _ _ hW hS (lv_sub hl [2, 3, 4, 5, 6, 7, 0] rfl)
            obtain ⟨k34, hL28⟩ := wt_whC_o hL28
            exact hI35 k34 _ hL28 _ _ _ hW hS (lv_sub hl [4, 5, 6, 3, 2, 1, 0] rfl)
          · have hd := wt_if hd c25
            refine lv_iconst (pc := 76) (v := 0) hx hb dX4_signs_76 (by decide) ?_
            exact mr_iret hx hb hr rfl hlocks (wt_p1 hd) (wt_p2 hd) hW hK hS dX4_signs_77
        · have hd := wt_if hd c22
          refine lv_iconst (pc := 55) (v := 0) hx hb dX4_signs_55 (by decide) ?_
          exact mr_iret hx hb hr rfl hlocks (wt_p1 hd) (wt_p2 hd) hW hK hS dX4_signs_56
      have hd := hj16
      refine lv_if_ne (pc := 40) (tgt := 47) hx hb dX4_signs_40 (by decide) (fun c19 => ?_) (fun c19 => ?_)
      · have hd := wt_if hd c19
        refine lv_iconst (pc := 47) (v := 0) hx hb dX4_signs_47 (by decide) ?_
        exact hX18 (0 : Int32) (Option.some.inj hd) _ _ _ hW hS hl
      · have hd := wt_it hd c19
        refine lv_iconst (pc := 43) (v := 1) hx hb dX4_signs_43 (by decide) ?_
        refine lv_goto (pc := 44) (tgt := 48) hx hb dX4_signs_44 (by decide) ?_
        exact hX18 (1 : Int32) (Option.some.inj hd) _ _ _ hW hS hl
  have hd := hj5
  refine lv_if_ne (pc := 11) (tgt := 18) hx hb dX4_signs_11 (by decide) (fun c8 => ?_) (fun c8 => ?_)
  · have hd := wt_if hd c8
    refine lv_iconst (pc := 18) (v := 0) hx hb dX4_signs_18 (by decide) ?_
    exact hX7 (0 : Int32) (Option.some.inj hd) _ _ _ hW hS hl
  · have hd := wt_it hd c8
    refine lv_iconst (pc := 14) (v := 1) hx hb dX4_signs_14 (by decide) ?_
    refine lv_goto (pc := 15) (tgt := 19) hx hb dX4_signs_15 (by decide) ?_
    exact hX7 (1 : Int32) (Option.some.inj hd) _ _ _ hW hS hl
noncomputable def dX4_said (σ : MSt) (a0 : Int32) (a1 : Int32) : Option (Int32 × MSt) :=
  wt_lt (m_sF σ 0 (0 : Int32)) fun σ1 => wt_bd (dX4_isStory σ1 a0) fun w2 => wt_bd (if w2 = 0 then (some (.inl ())) else (wt_bd (dX4_isStory σ1 a1) fun w9 => if w9 = 0 then (some (.inl ())) else (wt_bd (dX4_bad σ1 (0 : Int32) (1 : Int32)) fun w12 => if w12.1 = 0 then (wt_bd (dX4_worthOf w12.2 a0 a1 (-1 : Int32)) fun w15 => if (10 : Int32) ≤ w15.1 then (if (1000 : Int32) ≤ w15.1 then (if (1000000 : Int32) ≤ w15.1 then (some (.inr ((3 : Int32), w15.2))) else (some (.inr ((2 : Int32), w15.2)))) else (some (.inr ((1 : Int32), w15.2)))) else (some (.inr ((0 : Int32), w15.2)))) else (some (.inr ((0 : Int32), w12.2)))))) fun w4 => wt_rs w4 (fun w4 => wt_bd (dX4_bad σ1 (1 : Int32) (1 : Int32)) fun w20 => if w20.1 = 0 then (wt_bd (dX4_worthOf w20.2 a0 a1 (-1 : Int32)) fun w23 => if (10 : Int32) ≤ w23.1 then (if (1000 : Int32) ≤ w23.1 then (if (1000000 : Int32) ≤ w23.1 then (some ((3 : Int32), w23.2)) else (some ((2 : Int32), w23.2))) else (some ((1 : Int32), w23.2))) else (some ((0 : Int32), w23.2))) else (some ((0 : Int32), w20.2))) (fun z_ => some z_)
set_option maxHeartbeats 4000000 in
theorem wX4_said (l : Launch) {X : MPar} {lo hi : Nat} (hJ : mJ X lo hi) {σ : MSt} {a0 : Int32} {a1 : Int32} {out_ : Int32 × MSt} (hd : dX4_said σ a0 a1 = some out_) : Met l yX4_said (ws_ yX4_said cX4_said 4 (some .int)) ({ frames := 7, cells := 0, slots := 0, locals := 169 }) (mP X σ [.ref X.1.1, .int a0, .int a1]) (mQi X out_.1 out_.2 (mA lo hi)) 0 0 (mA lo hi) := by
  refine Met.ofW (cc := cX4_said) (maxL := 4) (ret := (some .int)) (by decide) rfl ?_
  intro p_ e_ s_ m_ args_ below_ meth_ c_ s₁_ B hml hv
  obtain ⟨rfl, hW, hK⟩ := hv
  have hx := B.exec
  have hb := B.bytes
  have hr := B.returns
  have hts := atoms_spec (ws := (ws_ yX4_said cX4_said 4 (some .int))) B.pre
  have hts : ∀ w ∈ lw_all, w.before _ s_ = true := fun w h => hts w (List.mem_cons_of_mem _ h)
  have hown : s_.vm.findClass RX4 = some m_.cls := findClass_of_methodNamed B.named
  have hlocks := B.notSynchronized
  have hS : va_S (mA lo hi) s_.heap s_.heap [] := va_S.rf
  have hl := lv_entry ([.ref X.1.1, .int a0, .int a1]) (n := 4) (Nat.le_of_ble_eq_true rfl)
  rw [lg_entry_eq]
  generalize (lg_sl ([.ref X.1.1, .int a0, .int a1]) ++ List.replicate (4 - (lg_sl ([.ref X.1.1, .int a0, .int a1])).length) Slot.unset).toArray = ls at hl ⊢
  have hl : lv_has ls 4 [(0, .ref X.1.1), (1, .int a0), (2, .int a1)] := hl
  unfold dX4_said at hd
  refine lv_aload_n (pc := 0) hx hb dX4_said_0 rfl (lv_at hl 0 rfl) ?_
  refine lv_iconst (pc := 1) (v := 0) hx hb dX4_said_1 (by decide) ?_
  obtain ⟨σ1, eσ1, hd⟩ := wt_lt_o hd
  refine mr_put (pc := 2) (k := 0) hx hb hts hown hK hW hJ hS (by decide) rfl eσ1 q1529 dX4_said_2 (fun H locs hW hS => ?_)
  refine lv_aload_n (pc := 5) hx hb dX4_said_5 rfl (lv_at hl 0 rfl) ?_
  refine lv_aload_n (pc := 6) hx hb dX4_said_6 rfl (lv_at hl 0 rfl) ?_
  refine lv_iload_n (pc := 7) hx hb dX4_said_7 rfl (lv_at hl 1 rfl) ?_
  obtain ⟨w2, hc3, hd⟩ := wt_bd_o hd
  refine kX4_isStory (pc := 8) hx hb hml hown hts hK hJ hW hS hc3 hl.1 (Nat.le_of_ble_eq_true rfl) ⟨Nat.le_of_ble_eq_true rfl, Nat.le_of_ble_eq_true rfl⟩ ⟨Nat.le_refl _, Nat.le_refl _⟩ dX4_said_8 (fun H locs hW hS => ?_)
  obtain ⟨w4, hj5, hq6⟩ := wt_bd_o hd
  have hX7 : ∀ w4_ : Unit, (Sum.inl w4_ : Unit ⊕ _) = w4 → ∀ (H : Heap) (locs : List Loc) (ls : Array Slot), mW X σ1 H → va_S (mA lo hi) s_.heap H locs → lv_has ls 4 [(0, .ref X.1.1), (1, .int a0), (2, .int a1)] → W p_ l e_ (headSpec (ws_ yX4_said cX4_said 4 (some .int)) ({ frames := 7, cells := 0, slots := 0, locals := 169 })).room s_ m_ ([.ref X.1.1, .int a0, .int a1] : List Value).toArray below_ meth_ c_ H locs 0 0 (MQ below_ (mQi X out_.1 out_.2 (mA lo hi)) ([.ref X.1.1, .int a0, .int a1] : List Value).toArray s_ 0 0 (mA lo hi)) (F0 m_ 22 ls [.ref X.1.1]) := by
    intro w4_ hw_
    have hd := wt_rs_l hw_ hq6
    clear hj5 hq6
    intro H locs ls hW hS hl
    refine lv_iconst (pc := 22) (v := 1) hx hb dX4_said_22 (by decide) ?_
    refine lv_goto (pc := 23) (tgt := 27) hx hb dX4_said_23 (by decide) ?_
    refine lv_iconst (pc := 27) (v := 1) hx hb dX4_said_27 (by decide) ?_
    obtain ⟨w20, hc21, hd⟩ := wt_bd_o hd
    refine kX4_bad (pc := 28) hx hb hml hown hts hK hJ hW hS hc21 hl.1 (Nat.le_of_ble_eq_true rfl) ⟨Nat.le_of_ble_eq_true rfl, Nat.le_of_ble_eq_true rfl⟩ ⟨Nat.le_refl _, Nat.le_refl _⟩ dX4_said_28 (fun H locs hW hS => ?_)
    refine lv_if_eq (pc := 31) (tgt := 36) hx hb dX4_said_31 (by decide) (fun c22 => ?_) (fun c22 => ?_)
    · have hd := wt_it hd c22
      refine lv_aload_n (pc := 36) hx hb dX4_said_36 rfl (lv_at hl 0 rfl) ?_
      refine lv_iload_n (pc := 37) hx hb dX4_said_37 rfl (lv_at hl 1 rfl) ?_
      refine lv_iload_n (pc := 38) hx hb dX4_said_38 rfl (lv_at hl 2 rfl) ?_
      refine lv_iconst (pc := 39) (v := -1) hx hb dX4_said_39 (by decide) ?_
      obtain ⟨w23, hc24, hd⟩ := wt_bd_o hd
      refine kX4_worthOf (pc := 40) hx hb hml hown hts hK hJ hW hS hc24 hl.1 (Nat.le_of_ble_eq_true rfl) ⟨Nat.le_of_ble_eq_true rfl, Nat.le_of_ble_eq_true rfl⟩ ⟨Nat.le_refl _, Nat.le_refl _⟩ dX4_said_40 (fun H locs hW hS => ?_)
      refine lv_istore_n (pc := 43) (lv' := [(3, .int w23.1), (0, .ref X.1.1), (1, .int a0), (2, .int a1)]) hx hb dX4_said_43 rfl hl (by decide) rfl (fun ls hl => ?_)
      refine lv_iload_n (pc := 44) hx hb dX4_said_44 rfl (lv_at hl 0 rfl) ?_
      refine lv_bipush (pc := 45) (v := 10) hx hb dX4_said_45 (by decide) ?_
      refine lv_icmp_ge (pc := 47) (tgt := 54) hx hb dX4_said_47 (by decide) (fun c25 => ?_) (fun c25 => ?_)
      · have hd := wt_it hd c25
        refine lv_iload_n (pc := 54) hx hb dX4_said_54 rfl (lv_at hl 0 rfl) ?_
        refine lv_sipush (pc := 55) (v := 1000) hx hb dX4_said_55 (by decide) ?_
        refine lv_icmp_ge (pc := 58) (tgt := 65) hx hb dX4_said_58 (by decide) (fun c26 => ?_) (fun c26 => ?_)
        · have hd := wt_it hd c26
          refine lv_iload_n (pc := 65) hx hb dX4_said_65 rfl (lv_at hl 0 rfl) ?_
          refine lv_ldcw (pc := 66) hx hb hown (hts _ q1913) dX4_said_66 ?_
          refine lv_icmp_ge (pc := 69) (tgt := 76) hx hb dX4_said_69 (by decide) (fun c27 => ?_) (fun c27 => ?_)
          · have hd := wt_it hd c27
            refine lv_iconst (pc := 76) (v := 3) hx hb dX4_said_76 (by decide) ?_
            exact mr_iret hx hb hr rfl hlocks (wt_p1 hd) (wt_p2 hd) hW hK hS dX4_said_77
          · have hd := wt_if hd c27
            refine lv_iconst (pc := 72) (v := 2) hx hb dX4_said_72 (by decide) ?_
            refine lv_goto (pc := 73) (tgt := 77) hx hb dX4_said_73 (by decide) ?_
            exact mr_iret hx hb hr rfl hlocks (wt_p1 hd) (wt_p2 hd) hW hK hS dX4_said_77
        · have hd := wt_if hd c26
          refine lv_iconst (pc := 61) (v := 1) hx hb dX4_said_61 (by decide) ?_
          refine lv_goto (pc := 62) (tgt := 77) hx hb dX4_said_62 (by decide) ?_
          exact mr_iret hx hb hr rfl hlocks (wt_p1 hd) (wt_p2 hd) hW hK hS dX4_said_77
      · have hd := wt_if hd c25
        refine lv_iconst (pc := 50) (v := 0) hx hb dX4_said_50 (by decide) ?_
        refine lv_goto (pc := 51) (tgt := 77) hx hb dX4_said_51 (by decide) ?_
        exact mr_iret hx hb hr rfl hlocks (wt_p1 hd) (wt_p2 hd) hW hK hS dX4_said_77
    · have hd := wt_if hd c22
      refine lv_iconst (pc := 34) (v := 0) hx hb dX4_said_34 (by decide) ?_
      exact mr_iret hx hb hr rfl hlocks (wt_p1 hd) (wt_p2 hd) hW hK hS dX4_said_35
  have hd := hj5
  refine lv_if_eq (pc := 11) (tgt := 22) hx hb dX4_said_11 (by decide) (fun c8 => ?_) (fun c8 => ?_)
  · have hd := wt_it hd c8
    exact hX7 () (Option.some.inj hd) _ _ _ hW hS hl
  · have hd := wt_if hd c8
    refine lv_aload_n (pc := 14) hx hb dX4_said_14 rfl (lv_at hl 0 rfl) ?_
    refine lv_iload_n (pc := 15) hx hb dX4_said_15 rfl (lv_at hl 2 rfl) ?_
    obtain ⟨w9, hc10, hd⟩ := wt_bd_o hd
    refine kX4_isStory (pc := 16) hx hb hml hown hts hK hJ hW hS hc10 hl.1 (Nat.le_of_ble_eq_true rfl) ⟨Nat.le_of_ble_eq_true rfl, Nat.le_of_ble_eq_true rfl⟩ ⟨Nat.le_refl _, Nat.le_refl _⟩ dX4_said_16 (fun H locs hW hS => ?_)
    refine lv_if_ne (pc := 19) (tgt := 26) hx hb dX4_said_19 (by decide) (fun c11 => ?_) (fun c11 => ?_)
    · have hd := wt_if hd c11
      refine lv_iconst (pc := 26) (v := 0) hx hb dX4_said_26 (by decide) ?_
      refine lv_iconst (pc := 27) (v := 1) hx hb dX4_said_27 (by decide) ?_
      obtain ⟨w12, hc13, hd⟩ := wt_bd_o hd
      refine kX4_bad (pc := 28) hx hb hml hown hts hK hJ hW hS hc13 hl.1 (Nat.le_of_ble_eq_true rfl) ⟨Nat.le_of_ble_eq_true rfl, Nat.le_of_ble_eq_true rfl⟩ ⟨Nat.le_refl _, Nat.le_refl _⟩ dX4_said_28 (fun H locs hW hS => ?_)
      refine lv_if_eq (pc := 31) (tgt := 36) hx hb dX4_said_31 (by decide) (fun c14 => ?_) (fun c14 => ?_)
      · have hd := wt_it hd c14
        refine lv_aload_n (pc := 36) hx hb dX4_said_36 rfl (lv_at hl 0 rfl) ?_
        refine lv_iload_n (pc := 37) hx hb dX4_said_37 rfl (lv_at hl 1 rfl) ?_
        refine lv_iload_n (pc := 38) hx hb dX4_said_38 rfl (lv_at hl 2 rfl) ?_
        refine lv_iconst (pc := 39) (v := -1) hx hb dX4_said_39 (by decide) ?_
        obtain ⟨w15, hc16, hd⟩ := wt_bd_o hd
        refine kX4_worthOf (pc := 40) hx hb hml hown hts hK hJ hW hS hc16 hl.1 (Nat.le_of_ble_eq_true rfl) ⟨Nat.le_of_ble_eq_true rfl, Nat.le_of_ble_eq_true rfl⟩ ⟨Nat.le_refl _, Nat.le_refl _⟩ dX4_said_40 (fun H locs hW hS => ?_)
        refine lv_istore_n (pc := 43) (lv' := [(3, .int w15.1), (0, .ref X.1.1), (1, .int a0), (2, .int a1)]) hx hb dX4_said_43 rfl hl (by decide) rfl (fun ls hl => ?_)
        refine lv_iload_n (pc := 44) hx hb dX4_said_44 rfl (lv_at hl 0 rfl) ?_
        refine lv_bipush (pc := 45) (v := 10) hx hb dX4_said_45 (by decide) ?_
        refine lv_icmp_ge (pc := 47) (tgt := 54) hx hb dX4_said_47 (by decide) (fun c17 => ?_) (fun c17 => ?_)
        · have hd := wt_it hd c17
          refine lv_iload_n (pc := 54) hx hb dX4_said_54 rfl (lv_at hl 0 rfl) ?_
          refine lv_sipush (pc := 55) (v := 1000) hx hb dX4_said_55 (by decide) ?_
          refine lv_icmp_ge (pc := 58) (tgt := 65) hx hb dX4_said_58 (by decide) (fun c18 => ?_) (fun c18 => ?_)
          · have hd := wt_it hd c18
            refine lv_iload_n (pc := 65) hx hb dX4_said_65 rfl (lv_at hl 0 rfl) ?_
            refine lv_ldcw (pc := 66) hx hb hown (hts _ q1913) dX4_said_66 ?_
            refine lv_icmp_ge (pc := 69) (tgt := 76) hx hb dX4_said_69 (by decide) (fun c19 => ?_) (fun c19 => ?_)
            · have hd := wt_it hd c19
              refine lv_iconst (pc := 76) (v := 3) hx hb dX4_said_76 (by decide) ?_
              have hd := wt_rs_r (Option.some.inj hd) hq6
              exact mr_iret hx hb hr rfl hlocks (wt_p1 hd) (wt_p2 hd) hW hK hS dX4_said_77
            · have hd := wt_if hd c19
              refine lv_iconst (pc := 72) (v := 2) hx hb dX4_said_72 (by decide) ?_
              refine lv_goto (pc := 73) (tgt := 77) hx hb dX4_said_73 (by decide) ?_
              have hd := wt_rs_r (Option.some.inj hd) hq6
              exact mr_iret hx hb hr rfl hlocks (wt_p1 hd) (wt_p2 hd) hW hK hS dX4_said_77
          · have hd := wt_if hd c18
            refine lv_iconst (pc := 61) (v := 1) hx hb dX4_said_61 (by decide) ?_
            refine lv_goto (pc := 62) (tgt := 77) hx hb dX4_said_62 (by decide) ?_
            have hd := wt_rs_r (Option.some.inj hd) hq6
            exact mr_iret hx hb hr rfl hlocks (wt_p1 hd) (wt_p2 hd) hW hK hS dX4_said_77
        · have hd := wt_if hd c17
          refine lv_iconst (pc := 50) (v := 0) hx hb dX4_said_50 (by decide) ?_
          refine lv_goto (pc := 51) (tgt := 77) hx hb dX4_said_51 (by decide) ?_
          have hd := wt_rs_r (Option.some.inj hd) hq6
          exact mr_iret hx hb hr rfl hlocks (wt_p1 hd) (wt_p2 hd) hW hK hS dX4_said_77
      · have hd := wt_if hd c14
        refine lv_iconst (pc := 34) (v := 0) hx hb dX4_said_34 (by decide) ?_
        have hd := wt_rs_r (Option.some.inj hd) hq6
        exact mr_iret hx hb hr rfl hlocks (wt_p1 hd) (wt_p2 hd) hW hK hS dX4_said_35
    · have hd := wt_it hd c11
      exact hX7 () (Option.some.inj hd) _ _ _ hW hS hl
noncomputable def bX4_image_2 (v3 : Int32 × MSt) (v14 : Int32 × MSt) : Option ((Int32 × MSt) ⊕ (MSt)) :=
  if (4 : Int32) ≤ v14.1 then (some (.inr v14.2)) else (wt_ck (vp_in (((8 : Int32) * (v14.2.1 31)) + v3.1) 24) <| wt_ck (vp_in v3.1 8) <| wt_ck (vp_in v14.1 4) <| wt_ck (vp_in v14.1 4) <| wt_lt (m_sG v14.2 35 (((((8 : Int32) * (v14.2.1 31)) + v3.1)).toNatClampNeg) v14.1.toNatClampNeg (v14.2.2.2 32 (v3.1.toNatClampNeg) v14.1.toNatClampNeg)) fun σ29 => wt_lt (v14.1 + (1 : Int32)) fun n30 => some (.inl (n30, σ29)))
noncomputable def bX4_image_1  (v3 : Int32 × MSt) : Option ((Int32 × MSt) ⊕ (MSt)) :=
  if (8 : Int32) ≤ v3.1 then (some (.inr v3.2)) else (wt_bd (wt_whC (bX4_image_2 v3) ((0 : Int32), v3.2)) fun w15 => wt_lt (v3.1 + (1 : Int32)) fun n31 => some (.inl (n31, w15)))
noncomputable def bX4_image_3  (v32 : Int32 × MSt) : Option ((Int32 × MSt) ⊕ (MSt)) :=
  if (40 : Int32) ≤ v32.1 then (some (.inr v32.2)) else (wt_ck (vp_in (v32.2.1 31) 3) <| wt_ck (vp_in v32.1 40) <| wt_ck (vp_in v32.1 40) <| wt_lt (m_sG v32.2 36 (((v32.2.1 31)).toNatClampNeg) v32.1.toNatClampNeg (v32.2.2.1 33 v32.1.toNatClampNeg)) fun σ46 => wt_lt (v32.1 + (1 : Int32)) fun n47 => some (.inl (n47, σ46)))
noncomputable def bX4_image_5 (v48 : Int32 × MSt) (v59 : Int32 × MSt) : Option ((Int32 × MSt) ⊕ (MSt)) :=
  if (3 : Int32) ≤ v59.1 then (some (.inr v59.2)) else (wt_ck (vp_in (((12 : Int32) * (v59.2.1 31)) + v48.1) 36) <| wt_ck (vp_in v48.1 12) <| wt_ck (vp_in v59.1 3) <| wt_ck (vp_in v59.1 3) <| wt_lt (m_sG v59.2 37 (((((12 : Int32) * (v59.2.1 31)) + v48.1)).toNatClampNeg) v59.1.toNatClampNeg (v59.2.2.2 34 (v48.1.toNatClampNeg) v59.1.toNatClampNeg)) fun σ74 => wt_lt (v59.1 + (1 : Int32)) fun n75 => some (.inl (n75, σ74)))
noncomputable def bX4_image_4  (v48 : Int32 × MSt) : Option ((Int32 × MSt) ⊕ (MSt)) :=
  if (12 : Int32) ≤ v48.1 then (some (.inr v48.2)) else (wt_bd (wt_whC (bX4_image_5 v48) ((0 : Int32), v48.2)) fun w60 => wt_lt (v48.1 + (1 : Int32)) fun n76 => some (.inl (n76, w60)))
noncomputable def dX4_image (σ : MSt)  : Option (Int32 × MSt) :=
  wt_lt (m_sF σ 0 (0 : Int32)) fun σ1 => if (σ1.1 31) = (3 : Int32) then (some ((-1 : Int32), σ1)) else (wt_bd (wt_whC (bX4_image_1) ((0 : Int32), σ1)) fun w4 => wt_bd (wt_whC (bX4_image_3) ((0 : Int32), w4)) fun w33 => wt_bd (wt_whC (bX4_image_4) ((0 : Int32), w33)) fun w49 => wt_ck (vp_in (w49.1 31) 3) <| wt_ck (vp_in (0 : Int32) 3) <| wt_lt (m_sG w49 38 (((w49.1 31)).toNatClampNeg) (0 : Int32).toNatClampNeg (w49.1 28)) fun σ79 => wt_ck (vp_in (σ79.1 31) 3) <| wt_ck (vp_in (1 : Int32) 3) <| wt_lt (m_sG σ79 38 (((σ79.1 31)).toNatClampNeg) (1 : Int32).toNatClampNeg (σ79.1 29)) fun σ82 => wt_ck (vp_in (σ82.1 31) 3) <| wt_ck (vp_in (2 : Int32) 3) <| wt_lt (m_sG σ82 38 (((σ82.1 31)).toNatClampNeg) (2 : Int32).toNatClampNeg (σ82.1 30)) fun σ85 => wt_lt (m_sF σ85 31 ((σ85.1 31) + (1 : Int32))) fun σ86 => some ((σ86.1 31), σ86))
set_option maxHeartbeats 4000000 in
theorem wX4_image (l : Launch) {X : MPar} {lo hi : Nat} (hJ : mJ X lo hi) {σ : MSt}  {out_ : Int32 × MSt} (hd : dX4_image σ = some out_) : Met l yX4_image (ws_ yX4_image cX4_image 3 (some .int)) ({ frames := 0, cells := 0, slots := 0, locals := 0 }) (mP X σ [.ref X.1.1]) (mQi X out_.1 out_.2 (mA lo hi)) 0 0 (mA lo hi) := by
  refine Met.ofW (cc := cX4_image) (maxL := 3) (ret := (some .int)) (by decide) rfl ?_
  intro p_ e_ s_ m_ args_ below_ meth_ c_ s₁_ B hml hv
  obtain ⟨rfl, hW, hK⟩ := hv
  have hx := B.exec
  have hb := B.bytes
  have hr := B.returns
  have hts := atoms_spec (ws := (ws_ yX4_image cX4_image 3 (some .int))) B.pre
  have hts : ∀ w ∈ lw_all, w.before _ s_ = true := fun w h => hts w (List.mem_cons_of_mem _ h)
  have hown : s_.vm.findClass RX4 = some m_.cls := findClass_of_methodNamed B.named
  have hlocks := B.notSynchronized
  have hS : va_S (mA lo hi) s_.heap s_.heap [] := va_S.rf
  have hl := lv_entry ([.ref X.1.1]) (n := 3) (Nat.le_of_ble_eq_true rfl)
  rw [lg_entry_eq]
  generalize (lg_sl ([.ref X.1.1]) ++ List.replicate (3 - (lg_sl ([.ref X.1.1])).length) Slot.unset).toArray = ls at hl ⊢
  have hl : lv_has ls 3 [(0, .ref X.1.1)] := hl
  unfold dX4_image at hd
  refine lv_aload_n (pc := 0) hx hb dX4_image_0 rfl (lv_at hl 0 rfl) ?_
  refine lv_iconst (pc := 1) (v := 0) hx hb dX4_image_1 (by decide) ?_
  obtain ⟨σ1, eσ1, hd⟩ := wt_lt_o hd
  refine mr_put (pc := 2) (k := 0) hx hb hts hown hK hW hJ hS (by decide) rfl eσ1 q1529 dX4_image_2 (fun H locs hW hS => ?_)
  refine lv_aload_n (pc := 5) hx hb dX4_image_5 rfl (lv_at hl 0 rfl) ?_
  refine mr_get (pc := 6) (k := 31) (v := .int ((σ1.1 31))) hx hb hts hown hK hW (by decide) rfl q1560 dX4_image_6 ?_
  refine lv_iconst (pc := 9) (v := 3) hx hb dX4_image_9 (by decide) ?_
  refine lv_icmp_ne (pc := 10) (tgt := 15) hx hb dX4_image_10 (by decide) (fun c2 => ?_) (fun c2 => ?_)
  · have hd := wt_if hd c2
    refine lv_iconst (pc := 15) (v := 0) hx hb dX4_image_15 (by decide) ?_
    refine lv_istore_n (pc := 16) (lv' := [(1, .int (0 : Int32)), (0, .ref X.1.1)]) hx hb dX4_image_16 rfl hl (by decide) rfl (fun ls hl => ?_)
    obtain ⟨w4, hL5, hq6⟩ := wt_bd_o hd
    have hX7 : ∀ w4_ : MSt, w4_ = w4 → ∀ (H : Heap) (locs : List Loc) (ls : Array Slot), mW X w4_ H → va_S (mA lo hi) s_.heap H locs → lv_has ls 3 [(0, .ref X.1.1)] → W p_ l e_ (headSpec (ws_ yX4_image cX4_image 3 (some .int)) ({ frames := 0, cells := 0, slots := 0, locals := 0 })).room s_ m_ ([.ref X.1.1] : List Value).toArray below_ meth_ c_ H locs 0 0 (MQ below_ (mQi X out_.1 out_.2 (mA lo hi)) ([.ref X.1.1] : List Value).toArray s_ 0 0 (mA lo hi)) (F0 m_ 66 ls []) := by
      intro w4_ hw_
      have hd := hq6
      subst hw_
      clear hL5 hq6
      intro H locs ls hW hS hl
      refine lv_iconst (pc := 66) (v := 0) hx hb dX4_image_66 (by decide) ?_
      refine lv_istore_n (pc := 67) (lv' := [(1, .int (0 : Int32)), (0, .ref X.1.1)]) hx hb dX4_image_67 rfl hl (by decide) rfl (fun ls hl => ?_)
      obtain ⟨w33, hL34, hq35⟩ := wt_bd_o hd
      have hX36 : ∀ w33_ : MSt, w33_ = w33 → ∀ (H : Heap) (locs : List Loc) (ls : Array Slot), mW X w33_ H → va_S (mA lo hi) s_.heap H locs → lv_has ls 3 [(0, .ref X.1.1)] → W p_ l e_ (headSpec (ws_ yX4_image cX4_image 3 (some .int)) ({ frames := 0, cells := 0, slots := 0, locals := 0 })).room s_ m_ ([.ref X.1.1] : List Value).toArray below_ meth_ c_ H locs 0 0 (MQ below_ (mQi X out_.1 out_.2 (mA lo hi)) ([.ref X.1.1] : List Value).toArray s_ 0 0 (mA lo hi)) (F0 m_ 97 ls []) := by
        intro w33_ hw_
        have hd := hq35
        subst hw_
        clear hL34 hq35
        intro H locs ls hW hS hl
        refine lv_iconst (pc := 97) (v := 0) hx hb dX4_image_97 (by decide) ?_
        refine lv_istore_n (pc := 98) (lv' := [(1, .int (0 : Int32)), (0, .ref X.1.1)]) hx hb dX4_image_98 rfl hl (by decide) rfl (fun ls hl => ?_)
        obtain ⟨w49, hL50, hq51⟩ := wt_bd_o hd
        have hX52 : ∀ w49_ : MSt, w49_ = w49 → ∀ (H : Heap) (locs : List Loc) (ls : Array Slot), mW X w49_ H → va_S (mA lo hi) s_.heap H locs → lv_has ls 3 [(0, .ref X.1.1)] → W p_ l e_ (headSpec (ws_ yX4_image cX4_image 3 (some .int)) ({ frames := 0, cells := 0, slots := 0, locals := 0 })).room s_ m_ ([.ref X.1.1] : List Value).toArray below_ meth_ c_ H locs 0 0 (MQ below_ (mQi X out_.1 out_.2 (mA lo hi)) ([.ref X.1.1] : List Value).toArray s_ 0 0 (mA lo hi)) (F0 m_ 148 ls []) := by
          intro w49_ hw_
          have hd := hq51
          subst hw_
          clear hL50 hq51
          intro H locs ls hW hS hl
          refine lv_aload_n (pc := 148) hx hb dX4_image_148 rfl (lv_at hl 0 rfl) ?_
          refine mr_get (pc := 149) (k := 38) (v := .ref (X.1.2.1 38)) hx hb hts hown hK hW (by decide) rfl q1567 dX4_image_149 ?_
          refine lv_aload_n (pc := 152) hx hb dX4_image_152 rfl (lv_at hl 0 rfl) ?_
          refine mr_get (pc := 153) (k := 31) (v := .int ((w49_.1 31))) hx hb hts hown hK hW (by decide) rfl q1560 dX4_image_153 ?_
          obtain ⟨h77, hd⟩ := wt_ck_o hd
          refine mr_row (pc := 156) (k := 38) hx hb hK hW rfl h77 dX4_image_156 ?_
          refine lv_iconst (pc := 157) (v := 0) hx hb dX4_image_157 (by decide) ?_
          refine lv_aload_n (pc := 158) hx hb dX4_image_158 rfl (lv_at hl 0 rfl) ?_
          refine mr_get (pc := 159) (k := 28) (v := .int ((w49_.1 28))) hx hb hts hown hK hW (by decide) rfl q1557 dX4_image_159 ?_
          obtain ⟨h78, hd⟩ := wt_ck_o hd
          obtain ⟨σ79, eσ79, hd⟩ := wt_lt_o hd
          refine mr_gst (pc := 162) (k := 38) (i := (((w49_.1 31)).toNatClampNeg)) hx hb hK hW hJ hS (vp_lt h77) rfl h78 eσ79 dX4_image_162 (fun H locs hW hS => ?_)
          refine lv_aload_n (pc := 163) hx hb dX4_image_163 rfl (lv_at hl 0 rfl) ?_
          refine mr_get (pc := 164) (k := 38) (v := .ref (X.1.2.1 38)) hx hb hts hown hK hW (by decide) rfl q1567 dX4_image_164 ?_
          refine lv_aload_n (pc := 167) hx hb dX4_image_167 rfl (lv_at hl 0 rfl) ?_
          refine mr_get (pc := 168) (k := 31) (v := .int ((σ79.1 31))) hx hb hts hown hK hW (by decide) rfl q1560 dX4_image_168 ?_
          obtain ⟨h80, hd⟩ := wt_ck_o hd
          refine mr_row (pc := 171) (k := 38) hx hb hK hW rfl h80 dX4_image_171 ?_
          refine lv_iconst (pc := 172) (v := 1) hx hb dX4_image_172 (by decide) ?_
          refine lv_aload_n (pc := 173) hx hb dX4_image_173 rfl (lv_at hl 0 rfl) ?_
          refine mr_get (pc := 174) (k := 29) (v := .int ((σ79.1 29))) hx hb hts hown hK hW (by decide) rfl q1558 dX4_image_174 ?_
          obtain ⟨h81, hd⟩ := wt_ck_o hd
          obtain ⟨σ82, eσ82, hd⟩ := wt_lt_o hd
          refine mr_gst (pc := 177) (k := 38) (i := (((σ79.1 31)).toNatClampNeg)) hx hb hK hW hJ hS (vp_lt h80) rfl h81 eσ82 dX4_image_177 (fun H locs hW hS => ?_)
          refine lv_aload_n (pc := 178) hx hb dX4_image_178 rfl (lv_at hl 0 rfl) ?_
          refine mr_get (pc := 179) (k := 38) (v := .ref (X.1.2.1 38)) hx hb hts hown hK hW (by decide) rfl q1567 dX4_image_179 ?_
          refine lv_aload_n (pc := 182) hx hb dX4_image_182 rfl (lv_at hl 0 rfl) ?_
          refine mr_get (pc := 183) (k := 31) (v := .int ((σ82.1 31))) hx hb hts hown hK hW (by decide) rfl q1560 dX4_image_183 ?_
          obtain ⟨h83, hd⟩ := wt_ck_o hd
          refine mr_row (pc := 186) (k := 38) hx hb hK hW rfl h83 dX4_image_186 ?_
          refine lv_iconst (pc := 187) (v := 2) hx hb dX4_image_187 (by decide) ?_
          refine lv_aload_n (pc := 188) hx hb dX4_image_188 rfl (lv_at hl 0 rfl) ?_
          refine mr_get (pc := 189) (k := 30) (v := .int ((σ82.1 30))) hx hb hts hown hK hW (by decide) rfl q1559 dX4_image_189 ?_
          obtain ⟨h84, hd⟩ := wt_ck_o hd
          obtain ⟨σ85, eσ85, hd⟩ := wt_lt_o hd
          refine mr_gst (pc := 192) (k := 38) (i := (((σ82.1 31)).toNatClampNeg)) hx hb hK hW hJ hS (vp_lt h83) rfl h84 eσ85 dX4_image_192 (fun H locs hW hS => ?_)
          refine lv_aload_n (pc := 193) hx hb dX4_image_193 rfl (lv_at hl 0 rfl) ?_
          refine lv_dup (pc := 194) hx hb dX4_image_194 rfl ?_
          refine mr_get (pc := 195) (k := 31) (v := .int ((σ85.1 31))) hx hb hts hown hK hW (by decide) rfl q1560 dX4_image_195 ?_
          refine lv_iconst (pc := 198) (v := 1) hx hb dX4_image_198 (by decide) ?_
          refine lv_iadd (pc := 199) hx hb dX4_image_199 ?_
          obtain ⟨σ86, eσ86, hd⟩ := wt_lt_o hd
          refine mr_put (pc := 200) (k := 31) hx hb hts hown hK hW hJ hS (by decide) rfl eσ86 q1560 dX4_image_200 (fun H locs hW hS => ?_)
          refine lv_aload_n (pc := 203) hx hb dX4_image_203 rfl (lv_at hl 0 rfl) ?_
          refine mr_get (pc := 204) (k := 31) (v := .int ((σ86.1 31))) hx hb hts hown hK hW (by decide) rfl q1560 dX4_image_204 ?_
          exact mr_iret hx hb hr rfl hlocks (wt_p1 hd) (wt_p2 hd) hW hK hS dX4_image_207
        have hI57 : ∀ (k56 : Nat) (v48 : Int32 × MSt), wt_wh (bX4_image_4) k56 v48 = some w49 → ∀ (H : Heap) (locs : List Loc) (ls : Array Slot), mW X v48.2 H → va_S (mA lo hi) s_.heap H locs → lv_has ls 3 [(0, .ref X.1.1), (1, .int v48.1)] → W p_ l e_ (headSpec (ws_ yX4_image cX4_image 3 (some .int)) ({ frames := 0, cells := 0, slots := 0, locals := 0 })).room s_ m_ ([.ref X.1.1] : List Value).toArray below_ meth_ c_ H locs 0 0 (MQ below_ (mQi X out_.1 out_.2 (mA lo hi)) ([.ref X.1.1] : List Value).toArray s_ 0 0 (mA lo hi)) (F0 m_ 99 ls []) := by
          intro k56
          induction k56 with
          | zero => intro v48 hd; exact absurd hd wt_wh_z
          | succ k56 ih54 =>
            intro v48 hd
            intro H locs ls hW hS hl
            obtain ⟨r55, hd, hk53⟩ := wt_wh_o hd
            unfold bX4_image_4 at hd
            refine lv_iload_n (pc := 99) hx hb dX4_image_99 rfl (lv_at hl 1 rfl) ?_
            refine lv_bipush (pc := 100) (v := 12) hx hb dX4_image_100 (by decide) ?_
            refine lv_icmp_ge (pc := 102) (tgt := 148) hx hb dX4_image_102 (by decide) (fun c58 => ?_) (fun c58 => ?_)
            · have hd := wt_it hd c58
              exact hX52 v48.2 (wt_exit hd hk53) _ _ _ hW hS (lv_sub hl [0] rfl)
            · have hd := wt_if hd c58
              refine lv_iconst (pc := 105) (v := 0) hx hb dX4_image_105 (by decide) ?_
              refine lv_istore_n (pc := 106) (lv' := [(2, .int (0 : Int32)), (0, .ref X.1.1), (1, .int v48.1)]) hx hb dX4_image_106 rfl hl (by decide) rfl (fun ls hl => ?_)
              obtain ⟨w60, hL61, hq62⟩ := wt_bd_o hd
              have hX63 : ∀ w60_ : MSt, w60_ = w60 → ∀ (H : Heap) (locs : List Loc) (ls : Array Slot), mW X w60_ H → va_S (mA lo hi) s_.heap H locs → lv_has ls 3 [(0, .ref X.1.1), (1, .int v48.1)] → W p_ l e_ (headSpec (ws_ yX4_image cX4_image 3 (some .int)) ({ frames := 0, cells := 0, slots := 0, locals := 0 })).room s_ m_ ([.ref X.1.1] : List Value).toArray below_ meth_ c_ H locs 0 0 (MQ below_ (mQi X out_.1 out_.2 (mA lo hi)) ([.ref X.1.1] : List Value).toArray s_ 0 0 (mA lo hi)) (F0 m_ 142 ls []) := by
                intro w60_ hw_
                have hd := hq62
                subst hw_
                clear hL61 hq62
                intro H locs ls hW hS hl
                obtain ⟨n76, en76, hd⟩ := wt_lt_o hd
                refine lv_iinc (pc := 142) (k := 1) (v := n76) (lv' := [(1, .int n76), (0, .ref X.1.1)]) hx hb dX4_image_142 hl rfl en76.symm (by decide) rfl (fun ls hl => ?_)
                refine lv_goto (pc := 145) (tgt := 99) hx hb dX4_image_145 (by decide) ?_
                exact ih54 _ (wt_again hd hk53) _ _ _ hW hS (lv_sub hl [1, 0] rfl)
              have hI68 : ∀ (k67 : Nat) (v59 : Int32 × MSt), wt_wh (bX4_image_5 v48) k67 v59 = some w60 → ∀ (H : Heap) (locs : List Loc) (ls : Array Slot), mW X v59.2 H → va_S (mA lo hi) s_.heap H locs → lv_has ls 3 [(0, .ref X.1.1), (1, .int v48.1), (2, .int v59.1)] → W p_ l e_ (headSpec (ws_ yX4_image cX4_image 3 (some .int)) ({ frames := 0, cells := 0, slots := 0, locals := 0 })).room s_ m_ ([.ref X.1.1] : List Value).toArray below_ meth_ c_ H locs 0 0 (MQ below_ (mQi X out_.1 out_.2 (mA lo hi)) ([.ref X.1.1] : List Value).toArray s_ 0 0 (mA lo hi)) (F0 m_ 107 ls []) := by
                intro k67
                induction k67 with
                | zero => intro v59 hd; exact absurd hd wt_wh_z
                | succ k67 ih65 =>
                  intro v59 hd
                  intro H locs ls hW hS hl
                  obtain ⟨r66, hd, hk64⟩ := wt_wh_o hd
                  unfold bX4_image_5 at hd
                  refine lv_iload_n (pc := 107) hx hb dX4_image_107 rfl (lv_at hl 2 rfl) ?_
                  refine lv_iconst (pc := 108) (v := 3) hx hb dX4_image_108 (by decide) ?_
                  refine lv_icmp_ge (pc := 109) (tgt := 142) hx hb dX4_image_109 (by decide) (fun c69 => ?_) (fun c69 => ?_)
                  · have hd := wt_it hd c69
                    exact hX63 v59.2 (wt_exit hd hk64) _ _ _ hW hS (lv_sub hl [0, 1] rfl)
                  · have hd := wt_if hd c69
                    refine lv_aload_n (pc := 112) hx hb dX4_image_112 rfl (lv_at hl 0 rfl) ?_
                    refine mr_get (pc := 113) (k := 37) (v := .ref (X.1.2.1 37)) hx hb hts hown hK hW (by decide) rfl q1566 dX4_image_113 ?_
                    refine lv_bipush (pc := 116) (v := 12) hx hb dX4_image_116 (by decide) ?_
                    refine lv_aload_n (pc := 118) hx hb dX4_image_118 rfl (lv_at hl 0 rfl) ?_
                    refine mr_get (pc := 119) (k := 31) (v := .int ((v59.2.1 31))) hx hb hts hown hK hW (by decide) rfl q1560 dX4_image_119 ?_
                    refine lv_imul (pc := 122) hx hb dX4_image_122 ?_
                    refine lv_iload_n (pc := 123) hx hb dX4_image_123 rfl (lv_at hl 1 rfl) ?_
                    refine lv_iadd (pc := 124) hx hb dX4_image_124 ?_
                    obtain ⟨h70, hd⟩ := wt_ck_o hd
                    refine mr_row (pc := 125) (k := 37) hx hb hK hW rfl h70 dX4_image_125 ?_
                    refine lv_iload_n (pc := 126) hx hb dX4_image_126 rfl (lv_at hl 2 rfl) ?_
                    refine lv_aload_n (pc := 127) hx hb dX4_image_127 rfl (lv_at hl 0 rfl) ?_
                    refine mr_get (pc := 128) (k := 34) (v := .ref (X.1.2.1 34)) hx hb hts hown hK hW (by decide) rfl q1563 dX4_image_128 ?_
                    refine lv_iload_n (pc := 131) hx hb dX4_image_131 rfl (lv_at hl 1 rfl) ?_
                    obtain ⟨h71, hd⟩ := wt_ck_o hd
                    refine mr_row (pc := 132) (k := 34) hx hb hK hW rfl h71 dX4_image_132 ?_
                    refine lv_iload_n (pc := 133) hx hb dX4_image_133 rfl (lv_at hl 2 rfl) ?_
                    obtain ⟨h72, hd⟩ := wt_ck_o hd
                    refine mr_gld (pc := 134) (k := 34) (i := (v48.1.toNatClampNeg)) hx hb hK hW (vp_lt h71) rfl h72 dX4_image_134 ?_
                    obtain ⟨h73, hd⟩ := wt_ck_o hd
                    obtain ⟨σ74, eσ74, hd⟩ := wt_lt_o hd
                    refine mr_gst (pc := 135) (k := 37) (i := (((((12 : Int32) * (v59.2.1 31)) + v48.1)).toNatClampNeg)) hx hb hK hW hJ hS (vp_lt h70) rfl h73 eσ74 dX4_image_135 (fun H locs hW hS => ?_)
                    obtain ⟨n75, en75, hd⟩ := wt_lt_o hd
                    refine lv_iinc (pc := 136) (k := 2) (v := n75) (lv' := [(2, .int n75), (0, .ref X.1.1), (1, .int v48.1)]) hx hb dX4_image_136 hl rfl en75.symm (by decide) rfl (fun ls hl => ?_)
                    refine lv_goto (pc := 139) (tgt := 107) hx hb dX4_image_139 (by decide) ?_
                    exact ih65 _ (wt_again hd hk64) _ _ _ hW hS (lv_sub hl [1, 2, 0] rfl)
              obtain ⟨k67, hL61⟩ := wt_whC_o hL61
              exact hI68 k67 _ hL61 _ _ _ hW hS (lv_sub hl [1, 2, 0] rfl)
        obtain ⟨k56, hL50⟩ := wt_whC_o hL50
        exact hI57 k56 _ hL50 _ _ _ hW hS (lv_sub hl [1, 0] rfl)
      have hI41 : ∀ (k40 : Nat) (v32 : Int32 × MSt), wt_wh (bX4_image_3) k40 v32 = some w33 → ∀ (H : Heap) (locs : List Loc) (ls : Array Slot), mW X v32.2 H → va_S (mA lo hi) s_.heap H locs → lv_has ls 3 [(0, .ref X.1.1), (1, .int v32.1)] → W p_ l e_ (headSpec (ws_ yX4_image cX4_image 3 (some .int)) ({ frames := 0, cells := 0, slots := 0, locals := 0 })).room s_ m_ ([.ref X.1.1] : List Value).toArray below_ meth_ c_ H locs 0 0 (MQ below_ (mQi X out_.1 out_.2 (mA lo hi)) ([.ref X.1.1] : List Value).toArray s_ 0 0 (mA lo hi)) (F0 m_ 68 ls []) := by
        intro k40
        induction k40 with
        | zero => intro v32 hd; exact absurd hd wt_wh_z
        | succ k40 ih38 =>
          intro v32 hd
          intro H locs ls hW hS hl
          obtain ⟨r39, hd, hk37⟩ := wt_wh_o hd
          unfold bX4_image_3 at hd
          refine lv_iload_n (pc := 68) hx hb dX4_image_68 rfl (lv_at hl 1 rfl) ?_
          refine lv_bipush (pc := 69) (v := 40) hx hb dX4_image_69 (by decide) ?_
          refine lv_icmp_ge (pc := 71) (tgt := 97) hx hb dX4_image_71 (by decide) (fun c42 => ?_) (fun c42 => ?_)
          · have hd := wt_it hd c42
            exact hX36 v32.2 (wt_exit hd hk37) _ _ _ hW hS (lv_sub hl [0] rfl)
          · have hd := wt_if hd c42
            refine lv_aload_n (pc := 74) hx hb dX4_image_74 rfl (lv_at hl 0 rfl) ?_
            refine mr_get (pc := 75) (k := 36) (v := .ref (X.1.2.1 36)) hx hb hts hown hK hW (by decide) rfl q1565 dX4_image_75 ?_
            refine lv_aload_n (pc := 78) hx hb dX4_image_78 rfl (lv_at hl 0 rfl) ?_
            refine mr_get (pc := 79) (k := 31) (v := .int ((v32.2.1 31))) hx hb hts hown hK hW (by decide) rfl q1560 dX4_image_79 ?_
            obtain ⟨h43, hd⟩ := wt_ck_o hd
            refine mr_row (pc := 82) (k := 36) hx hb hK hW rfl h43 dX4_image_82 ?_
            refine lv_iload_n (pc := 83) hx hb dX4_image_83 rfl (lv_at hl 1 rfl) ?_
            refine lv_aload_n (pc := 84) hx hb dX4_image_84 rfl (lv_at hl 0 rfl) ?_
            refine mr_get (pc := 85) (k := 33) (v := .ref (X.1.2.1 33)) hx hb hts hown hK hW (by decide) rfl q1562 dX4_image_85 ?_
            refine lv_iload_n (pc := 88) hx hb dX4_image_88 rfl (lv_at hl 1 rfl) ?_
            obtain ⟨h44, hd⟩ := wt_ck_o hd
            refine mr_ald (pc := 89) (k := 33) hx hb hK hW rfl h44 dX4_image_89 ?_
            obtain ⟨h45, hd⟩ := wt_ck_o hd
            obtain ⟨σ46, eσ46, hd⟩ := wt_lt_o hd
            refine mr_gst (pc := 90) (k := 36) (i := (((v32.2.1 31)).toNatClampNeg)) hx hb hK hW hJ hS (vp_lt h43) rfl h45 eσ46 dX4_image_90 (fun H locs hW hS => ?_)
            obtain ⟨n47, en47, hd⟩ := wt_lt_o hd
            refine lv_iinc (pc := 91) (k := 1) (v := n47) (lv' := [(1, .int n47), (0, .ref X.1.1)]) hx hb dX4_image_91 hl rfl en47.symm (by decide) rfl (fun ls hl => ?_)
            refine lv_goto (pc := 94) (tgt := 68) hx hb dX4_image_94 (by decide) ?_
            exact ih38 _ (wt_again hd hk37) _ _ _ hW hS (lv_sub hl [1, 0] rfl)
      obtain ⟨k40, hL34⟩ := wt_whC_o hL34
      exact hI41 k40 _ hL34 _ _ _ hW hS (lv_sub hl [1, 0] rfl)
    have hI12 : ∀ (k11 : Nat) (v3 : Int32 × MSt), wt_wh (bX4_image_1) k11 v3 = some w4 → ∀ (H : Heap) (locs : List Loc) (ls : Array Slot), mW X v3.2 H → va_S (mA lo hi) s_.heap H locs → lv_has ls 3 [(0, .ref X.1.1), (1, .int v3.1)] → W p_ l e_ (headSpec (ws_ yX4_image cX4_image 3 (some .int)) ({ frames := 0, cells := 0, slots := 0, locals := 0 })).room s_ m_ ([.ref X.1.1] : List Value).toArray below_ meth_ c_ H locs 0 0 (MQ below_ (mQi X out_.1 out_.2 (mA lo hi)) ([.ref X.1.1] : List Value).toArray s_ 0 0 (mA lo hi)) (F0 m_ 17 ls []) := by
      intro k11
      induction k11 with
      | zero => intro v3 hd; exact absurd hd wt_wh_z
      | succ k11 ih9 =>
        intro v3 hd
        intro H locs ls hW hS hl
        obtain ⟨r10, hd, hk8⟩ := wt_wh_o hd
        unfold bX4_image_1 at hd
        refine lv_iload_n (pc := 17) hx hb dX4_image_17 rfl (lv_at hl 1 rfl) ?_
        refine lv_bipush (pc := 18) (v := 8) hx hb dX4_image_18 (by decide) ?_
        refine lv_icmp_ge (pc := 20) (tgt := 66) hx hb dX4_image_20 (by decide) (fun c13 => ?_) (fun c13 => ?_)
        · have hd := wt_it hd c13
          exact hX7 v3.2 (wt_exit hd hk8) _ _ _ hW hS (lv_sub hl [0] rfl)
        · have hd := wt_if hd c13
          refine lv_iconst (pc := 23) (v := 0) hx hb dX4_image_23 (by decide) ?_
          refine lv_istore_n (pc := 24) (lv' := [(2, .int (0 : Int32)), (0, .ref X.1.1), (1, .int v3.1)]) hx hb dX4_image_24 rfl hl (by decide) rfl (fun ls hl => ?_)
          obtain ⟨w15, hL16, hq17⟩ := wt_bd_o hd
          have hX18 : ∀ w15_ : MSt, w15_ = w15 → ∀ (H : Heap) (locs : List Loc) (ls : Array Slot), mW X w15_ H → va_S (mA lo hi) s_.heap H locs → lv_has ls 3 [(0, .ref X.1.1), (1, .int v3.1)] → W p_ l e_ (headSpec (ws_ yX4_image cX4_image 3 (some .int)) ({ frames := 0, cells := 0, slots := 0, locals := 0 })).room s_ m_ ([.ref X.1.1] : List Value).toArray below_ meth_ c_ H locs 0 0 (MQ below_ (mQi X out_.1 out_.2 (mA lo hi)) ([.ref X.1.1] : List Value).toArray s_ 0 0 (mA lo hi)) (F0 m_ 60 ls []) := by
            intro w15_ hw_
            have hd := hq17
            subst hw_
            clear hL16 hq17
            intro H locs ls hW hS hl
            obtain ⟨n31, en31, hd⟩ := wt_lt_o hd
            refine lv_iinc (pc := 60) (k := 1) (v := n31) (lv' := [(1, .int n31), (0, .ref X.1.1)]) hx hb dX4_image_60 hl rfl en31.symm (by decide) rfl (fun ls hl => ?_)
            refine lv_goto (pc := 63) (tgt := 17) hx hb dX4_image_63 (by decide) ?_
            exact ih9 _ (wt_again hd hk8) _ _ _ hW hS (lv_sub hl [1, 0] rfl)
          have hI23 : ∀ (k22 : Nat) (v14 : Int32 × MSt), wt_wh (bX4_image_2 v3) k22 v14 = some w15 → ∀ (H : Heap) (locs : List Loc) (ls : Array Slot), mW X v14.2 H → va_S (mA lo hi) s_.heap H locs → lv_has ls 3 [(0, .ref X.1.1), (1, .int v3.1), (2, .int v14.1)] → W p_ l e_ (headSpec (ws_ yX4_image cX4_image 3 (some .int)) ({ frames := 0, cells := 0, slots := 0, locals := 0 })).room s_ m_ ([.ref X.1.1] : List Value).toArray below_ meth_ c_ H locs 0 0 (MQ below_ (mQi X out_.1 out_.2 (mA lo hi)) ([.ref X.1.1] : List Value).toArray s_ 0 0 (mA lo hi)) (F0 m_ 25 ls []) := by
            intro k22
            induction k22 with
            | zero => intro v14 hd; exact absurd hd wt_wh_z
            | succ k22 ih20 =>
              intro v14 hd
              intro H locs ls hW hS hl
              obtain ⟨r21, hd, hk19⟩ := wt_wh_o hd
              unfold bX4_image_2 at hd
              refine lv_iload_n (pc := 25) hx hb dX4_image_25 rfl (lv_at hl 2 rfl) ?_
              refine lv_iconst (pc := 26) (v := 4) hx hb dX4_image_26 (by decide) ?_
              refine lv_icmp_ge (pc := 27) (tgt := 60) hx hb dX4_image_27 (by decide) (fun c24 => ?_) (fun c24 => ?_)
              · have hd := wt_it hd c24
                exact hX18 v14.2 (wt_exit hd hk19) _ _ _ hW hS (lv_sub hl [0, 1] rfl)
              · have hd := wt_if hd c24
                refine lv_aload_n (pc := 30) hx hb dX4_image_30 rfl (lv_at hl 0 rfl) ?_
                refine mr_get (pc := 31) (k := 35) (v := .ref (X.1.2.1 35)) hx hb hts hown hK hW (by decide) rfl q1564 dX4_image_31 ?_
                refine lv_bipush (pc := 34) (v := 8) hx hb dX4_image_34 (by decide) ?_
                refine lv_aload_n (pc := 36) hx hb dX4_image_36 rfl (lv_at hl 0 rfl) ?_
                refine mr_get (pc := 37) (k := 31) (v := .int ((v14.2.1 31))) hx hb hts hown hK hW (by decide) rfl q1560 dX4_image_37 ?_
                refine lv_imul (pc := 40) hx hb dX4_image_40 ?_
                refine lv_iload_n (pc := 41) hx hb dX4_image_41 rfl (lv_at hl 1 rfl) ?_
                refine lv_iadd (pc := 42) hx hb dX4_image_42 ?_
                obtain ⟨h25, hd⟩ := wt_ck_o hd
                refine mr_row (pc := 43) (k := 35) hx hb hK hW rfl h25 dX4_image_43 ?_
                refine lv_iload_n (pc := 44) hx hb dX4_image_44 rfl (lv_at hl 2 rfl) ?_
                refine lv_aload_n (pc := 45) hx hb dX4_image_45 rfl (lv_at hl 0 rfl) ?_
                refine mr_get (pc := 46) (k := 32) (v := .ref (X.1.2.1 32)) hx hb hts hown hK hW (by decide) rfl q1561 dX4_image_46 ?_
                refine lv_iload_n (pc := 49) hx hb dX4_image_49 rfl (lv_at hl 1 rfl) ?_
                obtain ⟨h26, hd⟩ := wt_ck_o hd
                refine mr_row (pc := 50) (k := 32) hx hb hK hW rfl h26 dX4_image_50 ?_
                refine lv_iload_n (pc := 51) hx hb dX4_image_51 rfl (lv_at hl 2 rfl) ?_
                obtain ⟨h27, hd⟩ := wt_ck_o hd
                refine mr_gld (pc := 52) (k := 32) (i := (v3.1.toNatClampNeg)) hx hb hK hW (vp_lt h26) rfl h27 dX4_image_52 ?_
                obtain ⟨h28, hd⟩ := wt_ck_o hd
                obtain ⟨σ29, eσ29, hd⟩ := wt_lt_o hd
                refine mr_gst (pc := 53) (k := 35) (i := (((((8 : Int32) * (v14.2.1 31)) + v3.1)).toNatClampNeg)) hx hb hK hW hJ hS (vp_lt h25) rfl h28 eσ29 dX4_image_53 (fun H locs hW hS => ?_)
                obtain ⟨n30, en30, hd⟩ := wt_lt_o hd
                refine lv_iinc (pc := 54) (k := 2) (v := n30) (lv' := [(2, .int n30), (0, .ref X.1.1), (1, .int v3.1)]) hx hb dX4_image_54 hl rfl en30.symm (by decide) rfl (fun ls hl => ?_)
                refine lv_goto (pc := 57) (tgt := 25) hx hb dX4_image_57 (by decide) ?_
                exact ih20 _ (wt_again hd hk19) _ _ _ hW hS (lv_sub hl [1, 2, 0] rfl)
          obtain ⟨k22, hL16⟩ := wt_whC_o hL16
          exact hI23 k22 _ hL16 _ _ _ hW hS (lv_sub hl [1, 2, 0] rfl)
    obtain ⟨k11, hL5⟩ := wt_whC_o hL5
    exact hI12 k11 _ hL5 _ _ _ hW hS (lv_sub hl [1, 0] rfl)
  · have hd := wt_it hd c2
    refine lv_iconst (pc := 13) (v := -1) hx hb dX4_image_13 (by decide) ?_
    exact mr_iret hx hb hr rfl hlocks (wt_p1 hd) (wt_p2 hd) hW hK hS dX4_image_14
noncomputable def bX4_restore_2 (v4 : Int32 × MSt) (v15 : Int32 × MSt) : Option ((Int32 × MSt) ⊕ (MSt)) :=
  if (4 : Int32) ≤ v15.1 then (some (.inr v15.2)) else (wt_ck (vp_in v4.1 8) <| wt_ck (vp_in (((8 : Int32) * (v15.2.1 31)) + v4.1) 24) <| wt_ck (vp_in v15.1 4) <| wt_ck (vp_in v15.1 4) <| wt_lt (m_sG v15.2 32 (v4.1.toNatClampNeg) v15.1.toNatClampNeg (v15.2.2.2 35 (((((8 : Int32) * (v15.2.1 31)) + v4.1)).toNatClampNeg) v15.1.toNatClampNeg)) fun σ30 => wt_lt (v15.1 + (1 : Int32)) fun n31 => some (.inl (n31, σ30)))
noncomputable def bX4_restore_1  (v4 : Int32 × MSt) : Option ((Int32 × MSt) ⊕ (MSt)) :=
  if (8 : Int32) ≤ v4.1 then (some (.inr v4.2)) else (wt_bd (wt_whC (bX4_restore_2 v4) ((0 : Int32), v4.2)) fun w16 => wt_lt (v4.1 + (1 : Int32)) fun n32 => some (.inl (n32, w16)))
noncomputable def bX4_restore_3  (v33 : Int32 × MSt) : Option ((Int32 × MSt) ⊕ (MSt)) :=
  if (40 : Int32) ≤ v33.1 then (some (.inr v33.2)) else (wt_ck (vp_in (v33.2.1 31) 3) <| wt_ck (vp_in v33.1 40) <| wt_ck (vp_in v33.1 40) <| wt_lt (m_sA v33.2 33 v33.1.toNatClampNeg (v33.2.2.2 36 (((v33.2.1 31)).toNatClampNeg) v33.1.toNatClampNeg)) fun σ47 => wt_lt (v33.1 + (1 : Int32)) fun n48 => some (.inl (n48, σ47)))
noncomputable def bX4_restore_5 (v49 : Int32 × MSt) (v60 : Int32 × MSt) : Option ((Int32 × MSt) ⊕ (MSt)) :=
  if (3 : Int32) ≤ v60.1 then (some (.inr v60.2)) else (wt_ck (vp_in v49.1 12) <| wt_ck (vp_in (((12 : Int32) * (v60.2.1 31)) + v49.1) 36) <| wt_ck (vp_in v60.1 3) <| wt_ck (vp_in v60.1 3) <| wt_lt (m_sG v60.2 34 (v49.1.toNatClampNeg) v60.1.toNatClampNeg (v60.2.2.2 37 (((((12 : Int32) * (v60.2.1 31)) + v49.1)).toNatClampNeg) v60.1.toNatClampNeg)) fun σ75 => wt_lt (v60.1 + (1 : Int32)) fun n76 => some (.inl (n76, σ75)))
noncomputable def bX4_restore_4  (v49 : Int32 × MSt) : Option ((Int32 × MSt) ⊕ (MSt)) :=
  if (12 : Int32) ≤ v49.1 then (some (.inr v49.2)) else (wt_bd (wt_whC (bX4_restore_5 v49) ((0 : Int32), v49.2)) fun w61 => wt_lt (v49.1 + (1 : Int32)) fun n77 => some (.inl (n77, w61)))
noncomputable def dX4_restore (σ : MSt)  : Option (Int32 × MSt) :=
  wt_lt (m_sF σ 0 (0 : Int32)) fun σ1 => if (σ1.1 31) = 0 then (some ((-1 : Int32), σ1)) else (wt_lt (m_sF σ1 31 ((σ1.1 31) - (1 : Int32))) fun σ3 => wt_bd (wt_whC (bX4_restore_1) ((0 : Int32), σ3)) fun w5 => wt_bd (wt_whC (bX4_restore_3) ((0 : Int32), w5)) fun w34 => wt_bd (wt_whC (bX4_restore_4) ((0 : Int32), w34)) fun w50 => wt_ck (vp_in (w50.1 31) 3) <| wt_ck (vp_in (0 : Int32) 3) <| wt_lt (m_sF w50 28 (w50.2.2 38 (((w50.1 31)).toNatClampNeg) (0 : Int32).toNatClampNeg)) fun σ80 => wt_ck (vp_in (σ80.1 31) 3) <| wt_ck (vp_in (1 : Int32) 3) <| wt_lt (m_sF σ80 29 (σ80.2.2 38 (((σ80.1 31)).toNatClampNeg) (1 : Int32).toNatClampNeg)) fun σ83 => wt_ck (vp_in (σ83.1 31) 3) <| wt_ck (vp_in (2 : Int32) 3) <| wt_lt (m_sF σ83 30 (σ83.2.2 38 (((σ83.1 31)).toNatClampNeg) (2 : Int32).toNatClampNeg)) fun σ86 => some ((σ86.1 31), σ86))
set_option maxHeartbeats 4000000 in
theorem wX4_restore (l : Launch) {X : MPar} {lo hi : Nat} (hJ : mJ X lo hi) {σ : MSt}  {out_ : Int32 × MSt} (hd : dX4_restore σ = some out_) : Met l yX4_restore (ws_ yX4_restore cX4_restore 3 (some .int)) ({ frames := 0, cells := 0, slots := 0, locals := 0 }) (mP X σ [.ref X.1.1]) (mQi X out_.1 out_.2 (mA lo hi)) 0 0 (mA lo hi) := by
  refine Met.ofW (cc := cX4_restore) (maxL := 3) (ret := (some .int)) (by decide) rfl ?_
  intro p_ e_ s_ m_ args_ below_ meth_ c_ s₁_ B hml hv
  obtain ⟨rfl, hW, hK⟩ := hv
  have hx := B.exec
  have hb := B.bytes
  have hr := B.returns
  have hts := atoms_spec (ws := (ws_ yX4_restore cX4_restore 3 (some .int))) B.pre
  have hts : ∀ w ∈ lw_all, w.before _ s_ = true := fun w h => hts w (List.mem_cons_of_mem _ h)
  have hown : s_.vm.findClass RX4 = some m_.cls := findClass_of_methodNamed B.named
  have hlocks := B.notSynchronized
  have hS : va_S (mA lo hi) s_.heap s_.heap [] := va_S.rf
  have hl := lv_entry ([.ref X.1.1]) (n := 3) (Nat.le_of_ble_eq_true rfl)
  rw [lg_entry_eq]
  generalize (lg_sl ([.ref X.1.1]) ++ List.replicate (3 - (lg_sl ([.ref X.1.1])).length) Slot.unset).toArray = ls at hl ⊢
  have hl : lv_has ls 3 [(0, .ref X.1.1)] := hl
  unfold dX4_restore at hd
  refine lv_aload_n (pc := 0) hx hb dX4_restore_0 rfl (lv_at hl 0 rfl) ?_
  refine lv_iconst (pc := 1) (v := 0) hx hb dX4_restore_1 (by decide) ?_
  obtain ⟨σ1, eσ1, hd⟩ := wt_lt_o hd
  refine mr_put (pc := 2) (k := 0) hx hb hts hown hK hW hJ hS (by decide) rfl eσ1 q1529 dX4_restore_2 (fun H locs hW hS => ?_)
  refine lv_aload_n (pc := 5) hx hb dX4_restore_5 rfl (lv_at hl 0 rfl) ?_
  refine mr_get (pc := 6) (k := 31) (v := .int ((σ1.1 31))) hx hb hts hown hK hW (by decide) rfl q1560 dX4_restore_6 ?_
  refine lv_if_ne (pc := 9) (tgt := 14) hx hb dX4_restore_9 (by decide) (fun c2 => ?_) (fun c2 => ?_)
  · have hd := wt_if hd c2
    refine lv_aload_n (pc := 14) hx hb dX4_restore_14 rfl (lv_at hl 0 rfl) ?_
    refine lv_dup (pc := 15) hx hb dX4_restore_15 rfl ?_
    refine mr_get (pc := 16) (k := 31) (v := .int ((σ1.1 31))) hx hb hts hown hK hW (by decide) rfl q1560 dX4_restore_16 ?_
    refine lv_iconst (pc := 19) (v := 1) hx hb dX4_restore_19 (by decide) ?_
    refine lv_isub (pc := 20) hx hb dX4_restore_20 ?_
    obtain ⟨σ3, eσ3, hd⟩ := wt_lt_o hd
    refine mr_put (pc := 21) (k := 31) hx hb hts hown hK hW hJ hS (by decide) rfl eσ3 q1560 dX4_restore_21 (fun H locs hW hS => ?_)
    refine lv_iconst (pc := 24) (v := 0) hx hb dX4_restore_24 (by decide) ?_
    refine lv_istore_n (pc := 25) (lv' := [(1, .int (0 : Int32)), (0, .ref X.1.1)]) hx hb dX4_restore_25 rfl hl (by decide) rfl (fun ls hl => ?_)
    obtain ⟨w5, hL6, hq7⟩ := wt_bd_o hd
    have hX8 : ∀ w5_ : MSt, w5_ = w5 → ∀ (H : Heap) (locs : List Loc) (ls : Array Slot), mW X w5_ H → va_S (mA lo hi) s_.heap H locs → lv_has ls 3 [(0, .ref X.1.1)] → W p_ l e_ (headSpec (ws_ yX4_restore cX4_restore 3 (some .int)) ({ frames := 0, cells := 0, slots := 0, locals := 0 })).room s_ m_ ([.ref X.1.1] : List Value).toArray below_ meth_ c_ H locs 0 0 (MQ below_ (mQi X out_.1 out_.2 (mA lo hi)) ([.ref X.1.1] : List Value).toArray s_ 0 0 (mA lo hi)) (F0 m_ 75 ls []) := by
      intro w5_ hw_
      have hd := hq7
      subst hw_
      clear hL6 hq7
      intro H locs ls hW hS hl
      refine lv_iconst (pc := 75) (v := 0) hx hb dX4_restore_75 (by decide) ?_
      refine lv_istore_n (pc := 76) (lv' := [(1, .int (0 : Int32)), (0, .ref X.1.1)]) hx hb dX4_restore_76 rfl hl (by decide) rfl (fun ls hl => ?_)
      obtain ⟨w34, hL35, hq36⟩ := wt_bd_o hd
      have hX37 : ∀ w34_ : MSt, w34_ = w34 → ∀ (H : Heap) (locs : List Loc) (ls : Array Slot), mW X w34_ H → va_S (mA lo hi) s_.heap H locs → lv_has ls 3 [(0, .ref X.1.1)] → W p_ l e_ (headSpec (ws_ yX4_restore cX4_restore 3 (some .int)) ({ frames := 0, cells := 0, slots := 0, locals := 0 })).room s_ m_ ([.ref X.1.1] : List Value).toArray below_ meth_ c_ H locs 0 0 (MQ below_ (mQi X out_.1 out_.2 (mA lo hi)) ([.ref X.1.1] : List Value).toArray s_ 0 0 (mA lo hi)) (F0 m_ 106 ls []) := by
        intro w34_ hw_
        have hd := hq36
        subst hw_
        clear hL35 hq36
        intro H locs ls hW hS hl
        refine lv_iconst (pc := 106) (v := 0) hx hb dX4_restore_106 (by decide) ?_
        refine lv_istore_n (pc := 107) (lv' := [(1, .int (0 : Int32)), (0, .ref X.1.1)]) hx hb dX4_restore_107 rfl hl (by decide) rfl (fun ls hl => ?_)
        obtain ⟨w50, hL51, hq52⟩ := wt_bd_o hd
        have hX53 : ∀ w50_ : MSt, w50_ = w50 → ∀ (H : Heap) (locs : List Loc) (ls : Array Slot), mW X w50_ H → va_S (mA lo hi) s_.heap H locs → lv_has ls 3 [(0, .ref X.1.1)] → W p_ l e_ (headSpec (ws_ yX4_restore cX4_restore 3 (some .int)) ({ frames := 0, cells := 0, slots := 0, locals := 0 })).room s_ m_ ([.ref X.1.1] : List Value).toArray below_ meth_ c_ H locs 0 0 (MQ below_ (mQi X out_.1 out_.2 (mA lo hi)) ([.ref X.1.1] : List Value).toArray s_ 0 0 (mA lo hi)) (F0 m_ 157 ls []) := by
          intro w50_ hw_
          have hd := hq52
          subst hw_
          clear hL51 hq52
          intro H locs ls hW hS hl
          refine lv_aload_n (pc := 157) hx hb dX4_restore_157 rfl (lv_at hl 0 rfl) ?_
          refine lv_aload_n (pc := 158) hx hb dX4_restore_158 rfl (lv_at hl 0 rfl) ?_
          refine mr_get (pc := 159) (k := 38) (v := .ref (X.1.2.1 38)) hx hb hts hown hK hW (by decide) rfl q1567 dX4_restore_159 ?_
          refine lv_aload_n (pc := 162) hx hb dX4_restore_162 rfl (lv_at hl 0 rfl) ?_
          refine mr_get (pc := 163) (k := 31) (v := .int ((w50_.1 31))) hx hb hts hown hK hW (by decide) rfl q1560 dX4_restore_163 ?_
          obtain ⟨h78, hd⟩ := wt_ck_o hd
          refine mr_row (pc := 166) (k := 38) hx hb hK hW rfl h78 dX4_restore_166 ?_
          refine lv_iconst (pc := 167) (v := 0) hx hb dX4_restore_167 (by decide) ?_
          obtain ⟨h79, hd⟩ := wt_ck_o hd
          refine mr_gld (pc := 168) (k := 38) (i := (((w50_.1 31)).toNatClampNeg)) hx hb hK hW (vp_lt h78) rfl h79 dX4_restore_168 ?_
          obtain ⟨σ80, eσ80, hd⟩ := wt_lt_o hd
          refine mr_put (pc := 169) (k := 28) hx hb hts hown hK hW hJ hS (by decide) rfl eσ80 q1557 dX4_restore_169 (fun H locs hW hS => ?_)
          refine lv_aload_n (pc := 172) hx hb dX4_restore_172 rfl (lv_at hl 0 rfl) ?_
          refine lv_aload_n (pc := 173) hx hb dX4_restore_173 rfl (lv_at hl 0 rfl) ?_
          refine mr_get (pc := 174) (k := 38) (v := .ref (X.1.2.1 38)) hx hb hts hown hK hW (by decide) rfl q1567 dX4_restore_174 ?_
          refine lv_aload_n (pc := 177) hx hb dX4_restore_177 rfl (lv_at hl 0 rfl) ?_
          refine mr_get (pc := 178) (k := 31) (v := .int ((σ80.1 31))) hx hb hts hown hK hW (by decide) rfl q1560 dX4_restore_178 ?_
          obtain ⟨h81, hd⟩ := wt_ck_o hd
          refine mr_row (pc := 181) (k := 38) hx hb hK hW rfl h81 dX4_restore_181 ?_
          refine lv_iconst (pc := 182) (v := 1) hx hb dX4_restore_182 (by decide) ?_
          obtain ⟨h82, hd⟩ := wt_ck_o hd
          refine mr_gld (pc := 183) (k := 38) (i := (((σ80.1 31)).toNatClampNeg)) hx hb hK hW (vp_lt h81) rfl h82 dX4_restore_183 ?_
          obtain ⟨σ83, eσ83, hd⟩ := wt_lt_o hd
          refine mr_put (pc := 184) (k := 29) hx hb hts hown hK hW hJ hS (by decide) rfl eσ83 q1558 dX4_restore_184 (fun H locs hW hS => ?_)
          refine lv_aload_n (pc := 187) hx hb dX4_restore_187 rfl (lv_at hl 0 rfl) ?_
          refine lv_aload_n (pc := 188) hx hb dX4_restore_188 rfl (lv_at hl 0 rfl) ?_
          refine mr_get (pc := 189) (k := 38) (v := .ref (X.1.2.1 38)) hx hb hts hown hK hW (by decide) rfl q1567 dX4_restore_189 ?_
          refine lv_aload_n (pc := 192) hx hb dX4_restore_192 rfl (lv_at hl 0 rfl) ?_
          refine mr_get (pc := 193) (k := 31) (v := .int ((σ83.1 31))) hx hb hts hown hK hW (by decide) rfl q1560 dX4_restore_193 ?_
          obtain ⟨h84, hd⟩ := wt_ck_o hd
          refine mr_row (pc := 196) (k := 38) hx hb hK hW rfl h84 dX4_restore_196 ?_
          refine lv_iconst (pc := 197) (v := 2) hx hb dX4_restore_197 (by decide) ?_
          obtain ⟨h85, hd⟩ := wt_ck_o hd
          refine mr_gld (pc := 198) (k := 38) (i := (((σ83.1 31)).toNatClampNeg)) hx hb hK hW (vp_lt h84) rfl h85 dX4_restore_198 ?_
          obtain ⟨σ86, eσ86, hd⟩ := wt_lt_o hd
          refine mr_put (pc := 199) (k := 30) hx hb hts hown hK hW hJ hS (by decide) rfl eσ86 q1559 dX4_restore_199 (fun H locs hW hS => ?_)
          refine lv_aload_n (pc := 202) hx hb dX4_restore_202 rfl (lv_at hl 0 rfl) ?_
          refine mr_get (pc := 203) (k := 31) (v := .int ((σ86.1 31))) hx hb hts hown hK hW (by decide) rfl q1560 dX4_restore_203 ?_
          exact mr_iret hx hb hr rfl hlocks (wt_p1 hd) (wt_p2 hd) hW hK hS dX4_restore_206
        have hI58 : ∀ (k57 : Nat) (v49 : Int32 × MSt), wt_wh (bX4_restore_4) k57 v49 = some w50 → ∀ (H : Heap) (locs : List Loc) (ls : Array Slot), mW X v49.2 H → va_S (mA lo hi) s_.heap H locs → lv_has ls 3 [(0, .ref X.1.1), (1, .int v49.1)] → W p_ l e_ (headSpec (ws_ yX4_restore cX4_restore 3 (some .int)) ({ frames := 0, cells := 0, slots := 0, locals := 0 })).room s_ m_ ([.ref X.1.1] : List Value).toArray below_ meth_ c_ H locs 0 0 (MQ below_ (mQi X out_.1 out_.2 (mA lo hi)) ([.ref X.1.1] : List Value).toArray s_ 0 0 (mA lo hi)) (F0 m_ 108 ls []) := by
          intro k57
          induction k57 with
          | zero => intro v49 hd; exact absurd hd wt_wh_z
          | succ k57 ih55 =>
            intro v49 hd
            intro H locs ls hW hS hl
            obtain ⟨r56, hd, hk54⟩ := wt_wh_o hd
            unfold bX4_restore_4 at hd
            refine lv_iload_n (pc := 108) hx hb dX4_restore_108 rfl (lv_at hl 1 rfl) ?_
            refine lv_bipush (pc := 109) (v := 12) hx hb dX4_restore_109 (by decide) ?_
            refine lv_icmp_ge (pc := 111) (tgt := 157) hx hb dX4_restore_111 (by decide) (fun c59 => ?_) (fun c59 => ?_)
            · have hd := wt_it hd c59
              exact hX53 v49.2 (wt_exit hd hk54) _ _ _ hW hS (lv_sub hl [0] rfl)
            · have hd := wt_if hd c59
              refine lv_iconst (pc := 114) (v := 0) hx hb dX4_restore_114 (by decide) ?_
              refine lv_istore_n (pc := 115) (lv' := [(2, .int (0 : Int32)), (0, .ref X.1.1), (1, .int v49.1)]) hx hb dX4_restore_115 rfl hl (by decide) rfl (fun ls hl => ?_)
              obtain ⟨w61, hL62, hq63⟩ := wt_bd_o hd
              have hX64 : ∀ w61_ : MSt, w61_ = w61 → ∀ (H : Heap) (locs : List Loc) (ls : Array Slot), mW X w61_ H → va_S (mA lo hi) s_.heap H locs → lv_has ls 3 [(0, .ref X.1.1), (1, .int v49.1)] → W p_ l e_ (headSpec (ws_ yX4_restore cX4_restore 3 (some .int)) ({ frames := 0, cells := 0, slots := 0, locals := 0 })).room s_ m_ ([.ref X.1.1] : List Value).toArray below_ meth_ c_ H locs 0 0 (MQ below_ (mQi X out_.1 out_.2 (mA lo hi)) ([.ref X.1.1] : List Value).toArray s_ 0 0 (mA lo hi)) (F0 m_ 151 ls []) := by
                intro w61_ hw_
                have hd := hq63
                subst hw_
                clear hL62 hq63
                intro H locs ls hW hS hl
                obtain ⟨n77, en77, hd⟩ := wt_lt_o hd
                refine lv_iinc (pc := 151) (k := 1) (v := n77) (lv' := [(1, .int n77), (0, .ref X.1.1)]) hx hb dX4_restore_151 hl rfl en77.symm (by decide) rfl (fun ls hl => ?_)
                refine lv_goto (pc := 154) (tgt := 108) hx hb dX4_restore_154 (by decide) ?_
                exact ih55 _ (wt_again hd hk54) _ _ _ hW hS (lv_sub hl [1, 0] rfl)
              have hI69 : ∀ (k68 : Nat) (v60 : Int32 × MSt), wt_wh (bX4_restore_5 v49) k68 v60 = some w61 → ∀ (H : Heap) (locs : List Loc) (ls : Array Slot), mW X v60.2 H → va_S (mA lo hi) s_.heap H locs → lv_has ls 3 [(0, .ref X.1.1), (1, .int v49.1), (2, .int v60.1)] → W p_ l e_ (headSpec (ws_ yX4_restore cX4_restore 3 (some .int)) ({ frames := 0, cells := 0, slots := 0, locals := 0 })).room s_ m_ ([.ref X.1.1] : List Value).toArray below_ meth_ c_ H locs 0 0 (MQ below_ (mQi X out_.1 out_.2 (mA lo hi)) ([.ref X.1.1] : List Value).toArray s_ 0 0 (mA lo hi)) (F0 m_ 116 ls []) := by
                intro k68
                induction k68 with
                | zero => intro v60 hd; exact absurd hd wt_wh_z
                | succ k68 ih66 =>
                  intro v60 hd
                  intro H locs ls hW hS hl
                  obtain ⟨r67, hd, hk65⟩ := wt_wh_o hd
                  unfold bX4_restore_5 at hd
                  refine lv_iload_n (pc := 116) hx hb dX4_restore_116 rfl (lv_at hl 2 rfl) ?_
                  refine lv_iconst (pc := 117) (v := 3) hx hb dX4_restore_117 (by decide) ?_
                  refine lv_icmp_ge (pc := 118) (tgt := 151) hx hb dX4_restore_118 (by decide) (fun c70 => ?_) (fun c70 => ?_)
                  · have hd := wt_it hd c70
                    exact hX64 v60.2 (wt_exit hd hk65) _ _ _ hW hS (lv_sub hl [0, 1] rfl)
                  · have hd := wt_if hd c70
                    refine lv_aload_n (pc := 121) hx hb dX4_restore_121 rfl (lv_at hl 0 rfl) ?_
                    refine mr_get (pc := 122) (k := 34) (v := .ref (X.1.2.1 34)) hx hb hts hown hK hW (by decide) rfl q1563 dX4_restore_122 ?_
                    refine lv_iload_n (pc := 125) hx hb dX4_restore_125 rfl (lv_at hl 1 rfl) ?_
                    obtain ⟨h71, hd⟩ := wt_ck_o hd
                    refine mr_row (pc := 126) (k := 34) hx hb hK hW rfl h71 dX4_restore_126 ?_
                    refine lv_iload_n (pc := 127) hx hb dX4_restore_127 rfl (lv_at hl 2 rfl) ?_
                    refine lv_aload_n (pc := 128) hx hb dX4_restore_128 rfl (lv_at hl 0 rfl) ?_
                    refine mr_get (pc := 129) (k := 37) (v := .ref (X.1.2.1 37)) hx hb hts hown hK hW (by decide) rfl q1566 dX4_restore_129 ?_
                    refine lv_bipush (pc := 132) (v := 12) hx hb dX4_restore_132 (by decide) ?_
                    refine lv_aload_n (pc := 134) hx hb dX4_restore_134 rfl (lv_at hl 0 rfl) ?_
                    refine mr_get (pc := 135) (k := 31) (v := .int ((v60.2.1 31))) hx hb hts hown hK hW (by decide) rfl q1560 dX4_restore_135 ?_
                    refine lv_imul (pc := 138) hx hb dX4_restore_138 ?_
                    refine lv_iload_n (pc := 139) hx hb dX4_restore_139 rfl (lv_at hl 1 rfl) ?_
                    refine lv_iadd (pc := 140) hx hb dX4_restore_140 ?_
                    obtain ⟨h72, hd⟩ := wt_ck_o hd
                    refine mr_row (pc := 141) (k := 37) hx hb hK hW rfl h72 dX4_restore_141 ?_
                    refine lv_iload_n (pc := 142) hx hb dX4_restore_142 rfl (lv_at hl 2 rfl) ?_
                    obtain ⟨h73, hd⟩ := wt_ck_o hd
                    refine mr_gld (pc := 143) (k := 37) (i := (((((12 : Int32) * (v60.2.1 31)) + v49.1)).toNatClampNeg)) hx hb hK hW (vp_lt h72) rfl h73 dX4_restore_143 ?_
                    obtain ⟨h74, hd⟩ := wt_ck_o hd
                    obtain ⟨σ75, eσ75, hd⟩ := wt_lt_o hd
                    refine mr_gst (pc := 144) (k := 34) (i := (v49.1.toNatClampNeg)) hx hb hK hW hJ hS (vp_lt h71) rfl h74 eσ75 dX4_restore_144 (fun H locs hW hS => ?_)
                    obtain ⟨n76, en76, hd⟩ := wt_lt_o hd
                    refine lv_iinc (pc := 145) (k := 2) (v := n76) (lv' := [(2, .int n76), (0, .ref X.1.1), (1, .int v49.1)]) hx hb dX4_restore_145 hl rfl en76.symm (by decide) rfl (fun ls hl => ?_)
                    refine lv_goto (pc := 148) (tgt := 116) hx hb dX4_restore_148 (by decide) ?_
                    exact ih66 _ (wt_again hd hk65) _ _ _ hW hS (lv_sub hl [1, 2, 0] rfl)
              obtain ⟨k68, hL62⟩ := wt_whC_o hL62
              exact hI69 k68 _ hL62 _ _ _ hW hS (lv_sub hl [1, 2, 0] rfl)
        obtain ⟨k57, hL51⟩ := wt_whC_o hL51
        exact hI58 k57 _ hL51 _ _ _ hW hS (lv_sub hl [1, 0] rfl)
      have hI42 : ∀ (k41 : Nat) (v33 : Int32 × MSt), wt_wh (bX4_restore_3) k41 v33 = some w34 → ∀ (H : Heap) (locs : List Loc) (ls : Array Slot), mW X v33.2 H → va_S (mA lo hi) s_.heap H locs → lv_has ls 3 [(0, .ref X.1.1), (1, .int v33.1)] → W p_ l e_ (headSpec (ws_ yX4_restore cX4_restore 3 (some .int)) ({ frames := 0, cells := 0, slots := 0, locals := 0 })).room s_ m_ ([.ref X.1.1] : List Value).toArray below_ meth_ c_ H locs 0 0 (MQ below_ (mQi X out_.1 out_.2 (mA lo hi)) ([.ref X.1.1] : List Value).toArray s_ 0 0 (mA lo hi)) (F0 m_ 77 ls []) := by
        intro k41
        induction k41 with
        | zero => intro v33 hd; exact absurd hd wt_wh_z
        | succ k41 ih39 =>
          intro v33 hd
          intro H locs ls hW hS hl
          obtain ⟨r40, hd, hk38⟩ := wt_wh_o hd
          unfold bX4_restore_3 at hd
          refine lv_iload_n (pc := 77) hx hb dX4_restore_77 rfl (lv_at hl 1 rfl) ?_
          refine lv_bipush (pc := 78) (v := 40) hx hb dX4_restore_78 (by decide) ?_
          refine lv_icmp_ge (pc := 80) (tgt := 106) hx hb dX4_restore_80 (by decide) (fun c43 => ?_) (fun c43 => ?_)
          · have hd := wt_it hd c43
            exact hX37 v33.2 (wt_exit hd hk38) _ _ _ hW hS (lv_sub hl [0] rfl)
          · have hd := wt_if hd c43
            refine lv_aload_n (pc := 83) hx hb dX4_restore_83 rfl (lv_at hl 0 rfl) ?_
            refine mr_get (pc := 84) (k := 33) (v := .ref (X.1.2.1 33)) hx hb hts hown hK hW (by decide) rfl q1562 dX4_restore_84 ?_
            refine lv_iload_n (pc := 87) hx hb dX4_restore_87 rfl (lv_at hl 1 rfl) ?_
            refine lv_aload_n (pc := 88) hx hb dX4_restore_88 rfl (lv_at hl 0 rfl) ?_
            refine mr_get (pc := 89) (k := 36) (v := .ref (X.1.2.1 36)) hx hb hts hown hK hW (by decide) rfl q1565 dX4_restore_89 ?_
            refine lv_aload_n (pc := 92) hx hb dX4_restore_92 rfl (lv_at hl 0 rfl) ?_
            refine mr_get (pc := 93) (k := 31) (v := .int ((v33.2.1 31))) hx hb hts hown hK hW (by decide) rfl q1560 dX4_restore_93 ?_
            obtain ⟨h44, hd⟩ := wt_ck_o hd
            refine mr_row (pc := 96) (k := 36) hx hb hK hW rfl h44 dX4_restore_96 ?_
            refine lv_iload_n (pc := 97) hx hb dX4_restore_97 rfl (lv_at hl 1 rfl) ?_
            obtain ⟨h45, hd⟩ := wt_ck_o hd
            refine mr_gld (pc := 98) (k := 36) (i := (((v33.2.1 31)).toNatClampNeg)) hx hb hK hW (vp_lt h44) rfl h45 dX4_restore_98 ?_
            obtain ⟨h46, hd⟩ := wt_ck_o hd
            obtain ⟨σ47, eσ47, hd⟩ := wt_lt_o hd
            refine mr_ast (pc := 99) (k := 33) hx hb hK hW hJ hS rfl h46 eσ47 dX4_restore_99 (fun H locs hW hS => ?_)
            obtain ⟨n48, en48, hd⟩ := wt_lt_o hd
            refine lv_iinc (pc := 100) (k := 1) (v := n48) (lv' := [(1, .int n48), (0, .ref X.1.1)]) hx hb dX4_restore_100 hl rfl en48.symm (by decide) rfl (fun ls hl => ?_)
            refine lv_goto (pc := 103) (tgt := 77) hx hb dX4_restore_103 (by decide) ?_
            exact ih39 _ (wt_again hd hk38) _ _ _ hW hS (lv_sub hl [1, 0] rfl)
      obtain ⟨k41, hL35⟩ := wt_whC_o hL35
      exact hI42 k41 _ hL35 _ _ _ hW hS (lv_sub hl [1, 0] rfl)
    have hI13 : ∀ (k12 : Nat) (v4 : Int32 × MSt), wt_wh (bX4_restore_1) k12 v4 = some w5 → ∀ (H : Heap) (locs : List Loc) (ls : Array Slot), mW X v4.2 H → va_S (mA lo hi) s_.heap H locs → lv_has ls 3 [(0, .ref X.1.1), (1, .int v4.1)] → W p_ l e_ (headSpec (ws_ yX4_restore cX4_restore 3 (some .int)) ({ frames := 0, cells := 0, slots := 0, locals := 0 })).room s_ m_ ([.ref X.1.1] : List Value).toArray below_ meth_ c_ H locs 0 0 (MQ below_ (mQi X out_.1 out_.2 (mA lo hi)) ([.ref X.1.1] : List Value).toArray s_ 0 0 (mA lo hi)) (F0 m_ 26 ls []) := by
      intro k12
      induction k12 with
      | zero => intro v4 hd; exact absurd hd wt_wh_z
      | succ k12 ih10 =>
        intro v4 hd
        intro H locs ls hW hS hl
        obtain ⟨r11, hd, hk9⟩ := wt_wh_o hd
        unfold bX4_restore_1 at hd
        refine lv_iload_n (pc := 26) hx hb dX4_restore_26 rfl (lv_at hl 1 rfl) ?_
        refine lv_bipush (pc := 27) (v := 8) hx hb dX4_restore_27 (by decide) ?_
        refine lv_icmp_ge (pc := 29) (tgt := 75) hx hb dX4_restore_29 (by decide) (fun c14 => ?_) (fun c14 => ?_)
        · have hd := wt_it hd c14
          exact hX8 v4.2 (wt_exit hd hk9) _ _ _ hW hS (lv_sub hl [0] rfl)
        · have hd := wt_if hd c14
          refine lv_iconst (pc := 32) (v := 0) hx hb dX4_restore_32 (by decide) ?_
          refine lv_istore_n (pc := 33) (lv' := [(2, .int (0 : Int32)), (0, .ref X.1.1), (1, .int v4.1)]) hx hb dX4_restore_33 rfl hl (by decide) rfl (fun ls hl => ?_)
          obtain ⟨w16, hL17, hq18⟩ := wt_bd_o hd
          have hX19 : ∀ w16_ : MSt, w16_ = w16 → ∀ (H : Heap) (locs : List Loc) (ls : Array Slot), mW X w16_ H → va_S (mA lo hi) s_.heap H locs → lv_has ls 3 [(0, .ref X.1.1), (1, .int v4.1)] → W p_ l e_ (headSpec (ws_ yX4_restore cX4_restore 3 (some .int)) ({ frames := 0, cells := 0, slots := 0, locals := 0 })).room s_ m_ ([.ref X.1.1] : List Value).toArray below_ meth_ c_ H locs 0 0 (MQ below_ (mQi X out_.1 out_.2 (mA lo hi)) ([.ref X.1.1] : List Value).toArray s_ 0 0 (mA lo hi)) (F0 m_ 69 ls []) := by
            intro w16_ hw_
            have hd := hq18
            subst hw_
            clear hL17 hq18
            intro H locs ls hW hS hl
            obtain ⟨n32, en32, hd⟩ := wt_lt_o hd
            refine lv_iinc (pc := 69) (k := 1) (v := n32) (lv' := [(1, .int n32), (0, .ref X.1.1)]) hx hb dX4_restore_69 hl rfl en32.symm (by decide) rfl (fun ls hl => ?_)
            refine lv_goto (pc := 72) (tgt := 26) hx hb dX4_restore_72 (by decide) ?_
            exact ih10 _ (wt_again hd hk9) _ _ _ hW hS (lv_sub hl [1, 0] rfl)
          have hI24 : ∀ (k23 : Nat) (v15 : Int32 × MSt), wt_wh (bX4_restore_2 v4) k23 v15 = some w16 → ∀ (H : Heap) (locs : List Loc) (ls : Array Slot), mW X v15.2 H → va_S (mA lo hi) s_.heap H locs → lv_has ls 3 [(0, .ref X.1.1), (1, .int v4.1), (2, .int v15.1)] → W p_ l e_ (headSpec (ws_ yX4_restore cX4_restore 3 (some .int)) ({ frames := 0, cells := 0, slots := 0, locals := 0 })).room s_ m_ ([.ref X.1.1] : List Value).toArray below_ meth_ c_ H locs 0 0 (MQ below_ (mQi X out_.1 out_.2 (mA lo hi)) ([.ref X.1.1] : List Value).toArray s_ 0 0 (mA lo hi)) (F0 m_ 34 ls []) := by
            intro k23
            induction k23 with
            | zero => intro v15 hd; exact absurd hd wt_wh_z
            | succ k23 ih21 =>
              intro v15 hd
              intro H locs ls hW hS hl
              obtain ⟨r22, hd, hk20⟩ := wt_wh_o hd
              unfold bX4_restore_2 at hd
              refine lv_iload_n (pc := 34) hx hb dX4_restore_34 rfl (lv_at hl 2 rfl) ?_
              refine lv_iconst (pc := 35) (v := 4) hx hb dX4_restore_35 (by decide) ?_
              refine lv_icmp_ge (pc := 36) (tgt := 69) hx hb dX4_restore_36 (by decide) (fun c25 => ?_) (fun c25 => ?_)
              · have hd := wt_it hd c25
                exact hX19 v15.2 (wt_exit hd hk20) _ _ _ hW hS (lv_sub hl [0, 1] rfl)
              · have hd := wt_if hd c25
                refine lv_aload_n (pc := 39) hx hb dX4_restore_39 rfl (lv_at hl 0 rfl) ?_
                refine mr_get (pc := 40) (k := 32) (v := .ref (X.1.2.1 32)) hx hb hts hown hK hW (by decide) rfl q1561 dX4_restore_40 ?_
                refine lv_iload_n (pc := 43) hx hb dX4_restore_43 rfl (lv_at hl 1 rfl) ?_
                obtain ⟨h26, hd⟩ := wt_ck_o hd
                refine mr_row (pc := 44) (k := 32) hx hb hK hW rfl h26 dX4_restore_44 ?_
                refine lv_iload_n (pc := 45) hx hb dX4_restore_45 rfl (lv_at hl 2 rfl) ?_
                refine lv_aload_n (pc := 46) hx hb dX4_restore_46 rfl (lv_at hl 0 rfl) ?_
                refine mr_get (pc := 47) (k := 35) (v := .ref (X.1.2.1 35)) hx hb hts hown hK hW (by decide) rfl q1564 dX4_restore_47 ?_
                refine lv_bipush (pc := 50) (v := 8) hx hb dX4_restore_50 (by decide) ?_
                refine lv_aload_n (pc := 52) hx hb dX4_restore_52 rfl (lv_at hl 0 rfl) ?_
                refine mr_get (pc := 53) (k := 31) (v := .int ((v15.2.1 31))) hx hb hts hown hK hW (by decide) rfl q1560 dX4_restore_53 ?_
                refine lv_imul (pc := 56) hx hb dX4_restore_56 ?_
                refine lv_iload_n (pc := 57) hx hb dX4_restore_57 rfl (lv_at hl 1 rfl) ?_
                refine lv_iadd (pc := 58) hx hb dX4_restore_58 ?_
                obtain ⟨h27, hd⟩ := wt_ck_o hd
                refine mr_row (pc := 59) (k := 35) hx hb hK hW rfl h27 dX4_restore_59 ?_
                refine lv_iload_n (pc := 60) hx hb dX4_restore_60 rfl (lv_at hl 2 rfl) ?_
                obtain ⟨h28, hd⟩ := wt_ck_o hd
                refine mr_gld (pc := 61) (k := 35) (i := (((((8 : Int32) * (v15.2.1 31)) + v4.1)).toNatClampNeg)) hx hb hK hW (vp_lt h27) rfl h28 dX4_restore_61 ?_
                obtain ⟨h29, hd⟩ := wt_ck_o hd
                obtain ⟨σ30, eσ30, hd⟩ := wt_lt_o hd
                refine mr_gst (pc := 62) (k := 32) (i := (v4.1.toNatClampNeg)) hx hb hK hW hJ hS (vp_lt h26) rfl h29 eσ30 dX4_restore_62 (fun H locs hW hS => ?_)
                obtain ⟨n31, en31, hd⟩ := wt_lt_o hd
                refine lv_iinc (pc := 63) (k := 2) (v := n31) (lv' := [(2, .int n31), (0, .ref X.1.1), (1, .int v4.1)]) hx hb dX4_restore_63 hl rfl en31.symm (by decide) rfl (fun ls hl => ?_)
                refine lv_goto (pc := 66) (tgt := 34) hx hb dX4_restore_66 (by decide) ?_
                exact ih21 _ (wt_again hd hk20) _ _ _ hW hS (lv_sub hl [1, 2, 0] rfl)
          obtain ⟨k23, hL17⟩ := wt_whC_o hL17
          exact hI24 k23 _ hL17 _ _ _ hW hS (lv_sub hl [1, 2, 0] rfl)
    obtain ⟨k12, hL6⟩ := wt_whC_o hL6
    exact hI13 k12 _ hL6 _ _ _ hW hS (lv_sub hl [1, 0] rfl)
  · have hd := wt_it hd c2
    refine lv_iconst (pc := 12) (v := -1) hx hb dX4_restore_12 (by decide) ?_
    exact mr_iret hx hb hr rfl hlocks (wt_p1 hd) (wt_p2 hd) hW hK hS dX4_restore_13
noncomputable def dX4_count (σ : MSt) (a0 : Int32) : Option (Int32 × MSt) :=
  wt_lt (m_sF σ 0 (0 : Int32)) fun σ1 => if a0 = 0 then (some ((σ1.1 8), σ1)) else (if a0 = 1 then (some ((σ1.1 24), σ1)) else (if a0 = 2 then (some ((σ1.1 28), σ1)) else (if a0 = 3 then (some ((σ1.1 29), σ1)) else (if a0 = 4 then (some ((σ1.1 30), σ1)) else (if a0 = 5 then (some ((σ1.1 31), σ1)) else (if a0 = 6 then (some ((σ1.1 1), σ1)) else (some ((-1 : Int32), σ1))))))))
set_option maxHeartbeats 4000000 in
theorem wX4_count (l : Launch) {X : MPar} {lo hi : Nat} (hJ : mJ X lo hi) {σ : MSt} {a0 : Int32} {out_ : Int32 × MSt} (hd : dX4_count σ a0 = some out_) : Met l yX4_count (ws_ yX4_count cX4_count 2 (some .int)) ({ frames := 0, cells := 0, slots := 0, locals := 0 }) (mP X σ [.ref X.1.1, .int a0]) (mQi X out_.1 out_.2 (mA lo hi)) 0 0 (mA lo hi) := by
  refine Met.ofW (cc := cX4_count) (maxL := 2) (ret := (some .int)) (by decide) rfl ?_
  intro p_ e_ s_ m_ args_ below_ meth_ c_ s₁_ B hml hv
  obtain ⟨rfl, hW, hK⟩ := hv
  have hx := B.exec
  have hb := B.bytes
  have hr := B.returns
  have hts := atoms_spec (ws := (ws_ yX4_count cX4_count 2 (some .int))) B.pre
  have hts : ∀ w ∈ lw_all, w.before _ s_ = true := fun w h => hts w (List.mem_cons_of_mem _ h)
  have hown : s_.vm.findClass RX4 = some m_.cls := findClass_of_methodNamed B.named
  have hlocks := B.notSynchronized
  have hS : va_S (mA lo hi) s_.heap s_.heap [] := va_S.rf
  have hl := lv_entry ([.ref X.1.1, .int a0]) (n := 2) (Nat.le_of_ble_eq_true rfl)
  rw [lg_entry_eq]
  generalize (lg_sl ([.ref X.1.1, .int a0]) ++ List.replicate (2 - (lg_sl ([.ref X.1.1, .int a0])).length) Slot.unset).toArray = ls at hl ⊢
  have hl : lv_has ls 2 [(0, .ref X.1.1), (1, .int a0)] := hl
  unfold dX4_count at hd
  refine lv_aload_n (pc := 0) hx hb dX4_count_0 rfl (lv_at hl 0 rfl) ?_
  refine lv_iconst (pc := 1) (v := 0) hx hb dX4_count_1 (by decide) ?_
  obtain ⟨σ1, eσ1, hd⟩ := wt_lt_o hd
  refine mr_put (pc := 2) (k := 0) hx hb hts hown hK hW hJ hS (by decide) rfl eσ1 q1529 dX4_count_2 (fun H locs hW hS => ?_)
  refine lv_iload_n (pc := 5) hx hb dX4_count_5 rfl (lv_at hl 1 rfl) ?_
  by_cases c2 : a0 = 0
  · have hd := wt_it hd c2
    refine lv_tableIn (pc := 6) (tgt := 48) (off := 42) hx hb dX4_count_6 (by rw [c2]; decide) (by rw [c2]; decide) (by rw [c2]; rfl) (by decide) ?_
    refine lv_aload_n (pc := 48) hx hb dX4_count_48 rfl (lv_at hl 0 rfl) ?_
    refine mr_get (pc := 49) (k := 8) (v := .int ((σ1.1 8))) hx hb hts hown hK hW (by decide) rfl q1537 dX4_count_49 ?_
    exact mr_iret hx hb hr rfl hlocks (wt_p1 hd) (wt_p2 hd) hW hK hS dX4_count_52
  have hd := wt_if hd c2
  by_cases c3 : a0 = 1
  · have hd := wt_it hd c3
    refine lv_tableIn (pc := 6) (tgt := 53) (off := 47) hx hb dX4_count_6 (by rw [c3]; decide) (by rw [c3]; decide) (by rw [c3]; rfl) (by decide) ?_
    refine lv_aload_n (pc := 53) hx hb dX4_count_53 rfl (lv_at hl 0 rfl) ?_
    refine mr_get (pc := 54) (k := 24) (v := .int ((σ1.1 24))) hx hb hts hown hK hW (by decide) rfl q1553 dX4_count_54 ?_
    exact mr_iret hx hb hr rfl hlocks (wt_p1 hd) (wt_p2 hd) hW hK hS dX4_count_57
  have hd := wt_if hd c3
  by_cases c4 : a0 = 2
  · have hd := wt_it hd c4
    refine lv_tableIn (pc := 6) (tgt := 58) (off := 52) hx hb dX4_count_6 (by rw [c4]; decide) (by rw [c4]; decide) (by rw [c4]; rfl) (by decide) ?_
    refine lv_aload_n (pc := 58) hx hb dX4_count_58 rfl (lv_at hl 0 rfl) ?_
    refine mr_get (pc := 59) (k := 28) (v := .int ((σ1.1 28))) hx hb hts hown hK hW (by decide) rfl q1557 dX4_count_59 ?_
    exact mr_iret hx hb hr rfl hlocks (wt_p1 hd) (wt_p2 hd) hW hK hS dX4_count_62
  have hd := wt_if hd c4
  by_cases c5 : a0 = 3
  · have hd := wt_it hd c5
    refine lv_tableIn (pc := 6) (tgt := 63) (off := 57) hx hb dX4_count_6 (by rw [c5]; decide) (by rw [c5]; decide) (by rw [c5]; rfl) (by decide) ?_
    refine lv_aload_n (pc := 63) hx hb dX4_count_63 rfl (lv_at hl 0 rfl) ?_
    refine mr_get (pc := 64) (k := 29) (v := .int ((σ1.1 29))) hx hb hts hown hK hW (by decide) rfl q1558 dX4_count_64 ?_
    exact mr_iret hx hb hr rfl hlocks (wt_p1 hd) (wt_p2 hd) hW hK hS dX4_count_67
  have hd := wt_if hd c5
  by_cases c6 : a0 = 4
  · have hd := wt_it hd c6
    refine lv_tableIn (pc := 6) (tgt := 68) (off := 62) hx hb dX4_count_6 (by rw [c6]; decide) (by rw [c6]; decide) (by rw [c6]; rfl) (by decide) ?_
    refine lv_aload_n (pc := 68) hx hb dX4_count_68 rfl (lv_at hl 0 rfl) ?_
    refine mr_get (pc := 69) (k := 30) (v := .int ((σ1.1 30))) hx hb hts hown hK hW (by decide) rfl q1559 dX4_count_69 ?_
    exact mr_iret hx hb hr rfl hlocks (wt_p1 hd) (wt_p2 hd) hW hK hS dX4_count_72
  have hd := wt_if hd c6
  by_cases c7 : a0 = 5
  · have hd := wt_it hd c7
    refine lv_tableIn (pc := 6) (tgt := 73) (off := 67) hx hb dX4_count_6 (by rw [c7]; decide) (by rw [c7]; decide) (by rw [c7]; rfl) (by decide) ?_
    refine lv_aload_n (pc := 73) hx hb dX4_count_73 rfl (lv_at hl 0 rfl) ?_
    refine mr_get (pc := 74) (k := 31) (v := .int ((σ1.1 31))) hx hb hts hown hK hW (by decide) rfl q1560 dX4_count_74 ?_
    exact mr_iret hx hb hr rfl hlocks (wt_p1 hd) (wt_p2 hd) hW hK hS dX4_count_77
  have hd := wt_if hd c7
  by_cases c8 : a0 = 6
  · have hd := wt_it hd c8
    refine lv_tableIn (pc := 6) (tgt := 78) (off := 72) hx hb dX4_count_6 (by rw [c8]; decide) (by rw [c8]; decide) (by rw [c8]; rfl) (by decide) ?_
    refine lv_aload_n (pc := 78) hx hb dX4_count_78 rfl (lv_at hl 0 rfl) ?_
    refine mr_get (pc := 79) (k := 1) (v := .int ((σ1.1 1))) hx hb hts hown hK hW (by decide) rfl q1530 dX4_count_79 ?_
    exact mr_iret hx hb hr rfl hlocks (wt_p1 hd) (wt_p2 hd) hW hK hS dX4_count_82
  have hd := wt_if hd c8
  have ec2 : ¬ (a0).toInt = 0 := fun h => c2 (wt_i32 h (by decide))
  have ec3 : ¬ (a0).toInt = 1 := fun h => c3 (wt_i32 h (by decide))
  have ec4 : ¬ (a0).toInt = 2 := fun h => c4 (wt_i32 h (by decide))
  have ec5 : ¬ (a0).toInt = 3 := fun h => c5 (wt_i32 h (by decide))
  have ec6 : ¬ (a0).toInt = 4 := fun h => c6 (wt_i32 h (by decide))
  have ec7 : ¬ (a0).toInt = 5 := fun h => c7 (wt_i32 h (by decide))
  have ec8 : ¬ (a0).toInt = 6 := fun h => c8 (wt_i32 h (by decide))
  refine lv_tableOut (pc := 6) (tgt := 83) hx hb dX4_count_6 (by omega) (by decide) ?_
  refine lv_iconst (pc := 83) (v := -1) hx hb dX4_count_83 (by decide) ?_
  exact mr_iret hx hb hr rfl hlocks (wt_p1 hd) (wt_p2 hd) hW hK hS dX4_count_84
