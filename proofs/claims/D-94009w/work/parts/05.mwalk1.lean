/-! the model's methods, walked (by gen/walk.py): thrown feed in bad byteAt blanks begins wordHere word isWord clauseHere wrong skipWord isDigit number sign clause law less eventHere eventAt story -/
set_option maxRecDepth 100000
noncomputable def dX4_thrown (σ : MSt)  : Option (Int32) :=
  some (σ.1 0)
set_option maxHeartbeats 4000000 in
theorem wX4_thrown (l : Launch) {X : MPar} {lo hi : Nat} (hJ : mJ X lo hi) {σ : MSt}  {out_ : Int32} (hd : dX4_thrown σ = some out_) : Met l yX4_thrown (ws_ yX4_thrown cX4_thrown 1 (some .int)) ({ frames := 0, cells := 0, slots := 0, locals := 0 }) (mP X σ [.ref X.1.1]) (mQi X out_ σ (mA lo hi)) 0 0 (mA lo hi) := by
  refine Met.ofW (cc := cX4_thrown) (maxL := 1) (ret := (some .int)) (by decide) rfl ?_
  intro p_ e_ s_ m_ args_ below_ meth_ c_ s₁_ B hml hv
  obtain ⟨rfl, hW, hK⟩ := hv
  have hx := B.exec
  have hb := B.bytes
  have hr := B.returns
  have hts := atoms_spec (ws := (ws_ yX4_thrown cX4_thrown 1 (some .int))) B.pre
  have hts : ∀ w ∈ lw_all, w.before _ s_ = true := fun w h => hts w (List.mem_cons_of_mem _ h)
  have hown : s_.vm.findClass RX4 = some m_.cls := findClass_of_methodNamed B.named
  have hlocks := B.notSynchronized
  have hS : va_S (mA lo hi) s_.heap s_.heap [] := va_S.rf
  have hl := lv_entry ([.ref X.1.1]) (n := 1) (Nat.le_of_ble_eq_true rfl)
  rw [lg_entry_eq]
  generalize (lg_sl ([.ref X.1.1]) ++ List.replicate (1 - (lg_sl ([.ref X.1.1])).length) Slot.unset).toArray = ls at hl ⊢
  have hl : lv_has ls 1 [(0, .ref X.1.1)] := hl
  unfold dX4_thrown at hd
  refine lv_aload_n (pc := 0) hx hb dX4_thrown_0 rfl (lv_at hl 0 rfl) ?_
  refine mr_get (pc := 1) (k := 0) (v := .int ((σ.1 0))) hx hb hts hown hK hW (by decide) rfl q1529 dX4_thrown_1 ?_
  exact mr_iret hx hb hr rfl hlocks (Option.some.inj hd) rfl hW hK hS dX4_thrown_4
noncomputable def bX4_feed_1 (a0 : Int32) (a1 : Int32) (a2 : Int32) (a3 : Int32) (a4 : Int32) (v3 : Int32 × MSt) : Option ((Int32 × MSt) ⊕ (MSt)) :=
  if (20 : Int32) ≤ v3.1 then (some (.inr v3.2)) else (wt_bd (if (4 : Int32) ≤ v3.1 then (if (8 : Int32) ≤ v3.1 then (if (12 : Int32) ≤ v3.1 then (if (16 : Int32) ≤ v3.1 then (some (a4)) else (some (a3))) else (some (a2))) else (some (a1))) else (some (a0))) fun w14 => wt_ck (vp_in (v3.2.1 1) 400) <| wt_lt (m_sA v3.2 7 (v3.2.1 1).toNatClampNeg ((w14 >>> (((24 : Int32) - ((8 : Int32) * (v3.1 - v3.1 / (4 : Int32) * (4 : Int32)))) &&& 31)) &&& (255 : Int32))) fun σ23 => wt_lt (m_sF σ23 1 ((σ23.1 1) + (1 : Int32))) fun σ24 => wt_lt (v3.1 + (1 : Int32)) fun n25 => some (.inl (n25, σ24)))
noncomputable def dX4_feed (σ : MSt) (a0 : Int32) (a1 : Int32) (a2 : Int32) (a3 : Int32) (a4 : Int32) : Option (Int32 × MSt) :=
  wt_lt (m_sF σ 0 (0 : Int32)) fun σ1 => if ((σ1.1 1) + (20 : Int32)) ≤ (400 : Int32) then (wt_bd (wt_whC (bX4_feed_1 a0 a1 a2 a3 a4) ((0 : Int32), σ1)) fun w4 => some ((w4.1 1), w4)) else (some ((-1 : Int32), σ1))
set_option maxHeartbeats 4000000 in
theorem wX4_feed (l : Launch) {X : MPar} {lo hi : Nat} (hJ : mJ X lo hi) {σ : MSt} {a0 : Int32} {a1 : Int32} {a2 : Int32} {a3 : Int32} {a4 : Int32} {out_ : Int32 × MSt} (hd : dX4_feed σ a0 a1 a2 a3 a4 = some out_) : Met l yX4_feed (ws_ yX4_feed cX4_feed 8 (some .int)) ({ frames := 0, cells := 0, slots := 0, locals := 0 }) (mP X σ [.ref X.1.1, .int a0, .int a1, .int a2, .int a3, .int a4]) (mQi X out_.1 out_.2 (mA lo hi)) 0 0 (mA lo hi) := by
  refine Met.ofW (cc := cX4_feed) (maxL := 8) (ret := (some .int)) (by decide) rfl ?_
  intro p_ e_ s_ m_ args_ below_ meth_ c_ s₁_ B hml hv
  obtain ⟨rfl, hW, hK⟩ := hv
  have hx := B.exec
  have hb := B.bytes
  have hr := B.returns
  have hts := atoms_spec (ws := (ws_ yX4_feed cX4_feed 8 (some .int))) B.pre
  have hts : ∀ w ∈ lw_all, w.before _ s_ = true := fun w h => hts w (List.mem_cons_of_mem _ h)
  have hown : s_.vm.findClass RX4 = some m_.cls := findClass_of_methodNamed B.named
  have hlocks := B.notSynchronized
  have hS : va_S (mA lo hi) s_.heap s_.heap [] := va_S.rf
  have hl := lv_entry ([.ref X.1.1, .int a0, .int a1, .int a2, .int a3, .int a4]) (n := 8) (Nat.le_of_ble_eq_true rfl)
  rw [lg_entry_eq]
  generalize (lg_sl ([.ref X.1.1, .int a0, .int a1, .int a2, .int a3, .int a4]) ++ List.replicate (8 - (lg_sl ([.ref X.1.1, .int a0, .int a1, .int a2, .int a3, .int a4])).length) Slot.unset).toArray = ls at hl ⊢
  have hl : lv_has ls 8 [(0, .ref X.1.1), (1, .int a0), (2, .int a1), (3, .int a2), (4, .int a3), (5, .int a4)] := hl
  unfold dX4_feed at hd
  refine lv_aload_n (pc := 0) hx hb dX4_feed_0 rfl (lv_at hl 0 rfl) ?_
  refine lv_iconst (pc := 1) (v := 0) hx hb dX4_feed_1 (by decide) ?_
  obtain ⟨σ1, eσ1, hd⟩ := wt_lt_o hd
  refine mr_put (pc := 2) (k := 0) hx hb hts hown hK hW hJ hS (by decide) rfl eσ1 q1529 dX4_feed_2 (fun H locs hW hS => ?_)
  refine lv_aload_n (pc := 5) hx hb dX4_feed_5 rfl (lv_at hl 0 rfl) ?_
  refine mr_get (pc := 6) (k := 1) (v := .int ((σ1.1 1))) hx hb hts hown hK hW (by decide) rfl q1530 dX4_feed_6 ?_
  refine lv_bipush (pc := 9) (v := 20) hx hb dX4_feed_9 (by decide) ?_
  refine lv_iadd (pc := 11) hx hb dX4_feed_11 ?_
  refine lv_sipush (pc := 12) (v := 400) hx hb dX4_feed_12 (by decide) ?_
  refine lv_icmp_le (pc := 15) (tgt := 20) hx hb dX4_feed_15 (by decide) (fun c2 => ?_) (fun c2 => ?_)
  · have hd := wt_it hd c2
    refine lv_iconst (pc := 20) (v := 0) hx hb dX4_feed_20 (by decide) ?_
    refine lv_istore (pc := 21) (lv' := [(6, .int (0 : Int32)), (0, .ref X.1.1), (1, .int a0), (2, .int a1), (3, .int a2), (4, .int a3), (5, .int a4)]) hx hb dX4_feed_21 hl (by decide) rfl (fun ls hl => ?_)
    obtain ⟨w4, hL5, hq6⟩ := wt_bd_o hd
    have hX7 : ∀ w4_ : MSt, w4_ = w4 → ∀ (H : Heap) (locs : List Loc) (ls : Array Slot), mW X w4_ H → va_S (mA lo hi) s_.heap H locs → lv_has ls 8 [(0, .ref X.1.1)] → W p_ l e_ (headSpec (ws_ yX4_feed cX4_feed 8 (some .int)) ({ frames := 0, cells := 0, slots := 0, locals := 0 })).room s_ m_ ([.ref X.1.1, .int a0, .int a1, .int a2, .int a3, .int a4] : List Value).toArray below_ meth_ c_ H locs 0 0 (MQ below_ (mQi X out_.1 out_.2 (mA lo hi)) ([.ref X.1.1, .int a0, .int a1, .int a2, .int a3, .int a4] : List Value).toArray s_ 0 0 (mA lo hi)) (F0 m_ 120 ls []) := by
      intro w4_ hw_
      have hd := hq6
      subst hw_
      clear hL5 hq6
      intro H locs ls hW hS hl
      refine lv_aload_n (pc := 120) hx hb dX4_feed_120 rfl (lv_at hl 0 rfl) ?_
      refine mr_get (pc := 121) (k := 1) (v := .int ((w4_.1 1))) hx hb hts hown hK hW (by decide) rfl q1530 dX4_feed_121 ?_
      exact mr_iret hx hb hr rfl hlocks (wt_p1 hd) (wt_p2 hd) hW hK hS dX4_feed_124
    have hI12 : ∀ (k11 : Nat) (v3 : Int32 × MSt), wt_wh (bX4_feed_1 a0 a1 a2 a3 a4) k11 v3 = some w4 → ∀ (H : Heap) (locs : List Loc) (ls : Array Slot), mW X v3.2 H → va_S (mA lo hi) s_.heap H locs → lv_has ls 8 [(0, .ref X.1.1), (1, .int a0), (2, .int a1), (3, .int a2), (4, .int a3), (5, .int a4), (6, .int v3.1)] → W p_ l e_ (headSpec (ws_ yX4_feed cX4_feed 8 (some .int)) ({ frames := 0, cells := 0, slots := 0, locals := 0 })).room s_ m_ ([.ref X.1.1, .int a0, .int a1, .int a2, .int a3, .int a4] : List Value).toArray below_ meth_ c_ H locs 0 0 (MQ below_ (mQi X out_.1 out_.2 (mA lo hi)) ([.ref X.1.1, .int a0, .int a1, .int a2, .int a3, .int a4] : List Value).toArray s_ 0 0 (mA lo hi)) (F0 m_ 23 ls []) := by
      intro k11
      induction k11 with
      | zero => intro v3 hd; exact absurd hd wt_wh_z
      | succ k11 ih9 =>
        intro v3 hd
        intro H locs ls hW hS hl
        obtain ⟨r10, hd, hk8⟩ := wt_wh_o hd
        unfold bX4_feed_1 at hd
        refine lv_iload (pc := 23) hx hb dX4_feed_23 (lv_at hl 6 rfl) ?_
        refine lv_bipush (pc := 25) (v := 20) hx hb dX4_feed_25 (by decide) ?_
        refine lv_icmp_ge (pc := 27) (tgt := 120) hx hb dX4_feed_27 (by decide) (fun c13 => ?_) (fun c13 => ?_)
        · have hd := wt_it hd c13
          exact hX7 v3.2 (wt_exit hd hk8) _ _ _ hW hS (lv_sub hl [0] rfl)
        · have hd := wt_if hd c13
          refine lv_iload (pc := 30) hx hb dX4_feed_30 (lv_at hl 6 rfl) ?_
          refine lv_iconst (pc := 32) (v := 4) hx hb dX4_feed_32 (by decide) ?_
          obtain ⟨w14, hj15, hq16⟩ := wt_bd_o hd
          have hX17 : ∀ w14_ : Int32, w14_ = w14 → ∀ (H : Heap) (locs : List Loc) (ls : Array Slot), mW X v3.2 H → va_S (mA lo hi) s_.heap H locs → lv_has ls 8 [(0, .ref X.1.1), (1, .int a0), (2, .int a1), (3, .int a2), (4, .int a3), (5, .int a4), (6, .int v3.1)] → W p_ l e_ (headSpec (ws_ yX4_feed cX4_feed 8 (some .int)) ({ frames := 0, cells := 0, slots := 0, locals := 0 })).room s_ m_ ([.ref X.1.1, .int a0, .int a1, .int a2, .int a3, .int a4] : List Value).toArray below_ meth_ c_ H locs 0 0 (MQ below_ (mQi X out_.1 out_.2 (mA lo hi)) ([.ref X.1.1, .int a0, .int a1, .int a2, .int a3, .int a4] : List Value).toArray s_ 0 0 (mA lo hi)) (F0 m_ 76 ls [.int w14_]) := by
            intro w14_ hw_
            have hd := hq16
            subst hw_
            clear hj15 hq16
            intro H locs ls hW hS hl
            refine lv_istore (pc := 76) (lv' := [(7, .int w14_), (0, .ref X.1.1), (1, .int a0), (2, .int a1), (3, .int a2), (4, .int a3), (5, .int a4), (6, .int v3.1)]) hx hb dX4_feed_76 hl (by decide) rfl (fun ls hl => ?_)
            refine lv_aload_n (pc := 78) hx hb dX4_feed_78 rfl (lv_at hl 1 rfl) ?_
            refine mr_get (pc := 79) (k := 7) (v := .ref (X.1.2.1 7)) hx hb hts hown hK hW (by decide) rfl q1536 dX4_feed_79 ?_
            refine lv_aload_n (pc := 82) hx hb dX4_feed_82 rfl (lv_at hl 1 rfl) ?_
            refine mr_get (pc := 83) (k := 1) (v := .int ((v3.2.1 1))) hx hb hts hown hK hW (by decide) rfl q1530 dX4_feed_83 ?_
            refine lv_iload (pc := 86) hx hb dX4_feed_86 (lv_at hl 0 rfl) ?_
            refine lv_bipush (pc := 88) (v := 24) hx hb dX4_feed_88 (by decide) ?_
            refine lv_bipush (pc := 90) (v := 8) hx hb dX4_feed_90 (by decide) ?_
            refine lv_iload (pc := 92) hx hb dX4_feed_92 (lv_at hl 7 rfl) ?_
            refine lv_iconst (pc := 94) (v := 4) hx hb dX4_feed_94 (by decide) ?_
            refine lv_irem (pc := 95) hx hb dX4_feed_95 (by decide) ?_
            refine lv_imul (pc := 96) hx hb dX4_feed_96 ?_
            refine lv_isub (pc := 97) hx hb dX4_feed_97 ?_
            refine lv_ishr (pc := 98) hx hb dX4_feed_98 ?_
            refine lv_sipush (pc := 99) (v := 255) hx hb dX4_feed_99 (by decide) ?_
            refine lv_iand (pc := 102) hx hb dX4_feed_102 ?_
            obtain ⟨h22, hd⟩ := wt_ck_o hd
            obtain ⟨σ23, eσ23, hd⟩ := wt_lt_o hd
            refine mr_ast (pc := 103) (k := 7) hx hb hK hW hJ hS rfl h22 eσ23 dX4_feed_103 (fun H locs hW hS => ?_)
            refine lv_aload_n (pc := 104) hx hb dX4_feed_104 rfl (lv_at hl 1 rfl) ?_
            refine lv_dup (pc := 105) hx hb dX4_feed_105 rfl ?_
            refine mr_get (pc := 106) (k := 1) (v := .int ((σ23.1 1))) hx hb hts hown hK hW (by decide) rfl q1530 dX4_feed_106 ?_
            refine lv_iconst (pc := 109) (v := 1) hx hb dX4_feed_109 (by decide) ?_
            refine lv_iadd (pc := 110) hx hb dX4_feed_110 ?_
            obtain ⟨σ24, eσ24, hd⟩ := wt_lt_o hd
            refine mr_put (pc := 111) (k := 1) hx hb hts hown hK hW hJ hS (by decide) rfl eσ24 q1530 dX4_feed_111 (fun H locs hW hS => ?_)
            obtain ⟨n25, en25, hd⟩ := wt_lt_o hd
            refine lv_iinc (pc := 114) (k := 7) (v := n25) (lv' := [(6, .int n25), (7, .int w14_), (0, .ref X.1.1), (1, .int a0), (2, .int a1), (3, .int a2), (4, .int a3), (5, .int a4)]) hx hb dX4_feed_114 hl rfl en25.symm (by decide) rfl (fun ls hl => ?_)
            refine lv_goto (pc := 117) (tgt := 23) hx hb dX4_feed_117 (by decide) ?_
            exact ih9 _ (wt_again hd hk8) _ _ _ hW hS (lv_sub hl [2, 3, 4, 5, 6, 7, 0] rfl)
          have hd := hj15
          refine lv_icmp_ge (pc := 33) (tgt := 40) hx hb dX4_feed_33 (by decide) (fun c18 => ?_) (fun c18 => ?_)
          · have hd := wt_it hd c18
            refine lv_iload (pc := 40) hx hb dX4_feed_40 (lv_at hl 6 rfl) ?_
            refine lv_bipush (pc := 42) (v := 8) hx hb dX4_feed_42 (by decide) ?_
            refine lv_icmp_ge (pc := 44) (tgt := 51) hx hb dX4_feed_44 (by decide) (fun c19 => ?_) (fun c19 => ?_)
            · have hd := wt_it hd c19
              refine lv_iload (pc := 51) hx hb dX4_feed_51 (lv_at hl 6 rfl) ?_
              refine lv_bipush (pc := 53) (v := 12) hx hb dX4_feed_53 (by decide) ?_
              refine lv_icmp_ge (pc := 55) (tgt := 62) hx hb dX4_feed_55 (by decide) (fun c20 => ?_) (fun c20 => ?_)
              · have hd := wt_it hd c20
                refine lv_iload (pc := 62) hx hb dX4_feed_62 (lv_at hl 6 rfl) ?_
                refine lv_bipush (pc := 64) (v := 16) hx hb dX4_feed_64 (by decide) ?_
                refine lv_icmp_ge (pc := 66) (tgt := 74) hx hb dX4_feed_66 (by decide) (fun c21 => ?_) (fun c21 => ?_)
                · have hd := wt_it hd c21
                  refine lv_iload (pc := 74) hx hb dX4_feed_74 (lv_at hl 5 rfl) ?_
                  exact hX17 a4 (Option.some.inj hd) _ _ _ hW hS hl
                · have hd := wt_if hd c21
                  refine lv_iload (pc := 69) hx hb dX4_feed_69 (lv_at hl 4 rfl) ?_
                  refine lv_goto (pc := 71) (tgt := 76) hx hb dX4_feed_71 (by decide) ?_
                  exact hX17 a3 (Option.some.inj hd) _ _ _ hW hS hl
              · have hd := wt_if hd c20
                refine lv_iload_n (pc := 58) hx hb dX4_feed_58 rfl (lv_at hl 3 rfl) ?_
                refine lv_goto (pc := 59) (tgt := 76) hx hb dX4_feed_59 (by decide) ?_
                exact hX17 a2 (Option.some.inj hd) _ _ _ hW hS hl
            · have hd := wt_if hd c19
              refine lv_iload_n (pc := 47) hx hb dX4_feed_47 rfl (lv_at hl 2 rfl) ?_
              refine lv_goto (pc := 48) (tgt := 76) hx hb dX4_feed_48 (by decide) ?_
              exact hX17 a1 (Option.some.inj hd) _ _ _ hW hS hl
          · have hd := wt_if hd c18
            refine lv_iload_n (pc := 36) hx hb dX4_feed_36 rfl (lv_at hl 1 rfl) ?_
            refine lv_goto (pc := 37) (tgt := 76) hx hb dX4_feed_37 (by decide) ?_
            exact hX17 a0 (Option.some.inj hd) _ _ _ hW hS hl
    obtain ⟨k11, hL5⟩ := wt_whC_o hL5
    exact hI12 k11 _ hL5 _ _ _ hW hS (lv_sub hl [1, 2, 3, 4, 5, 6, 0] rfl)
  · have hd := wt_if hd c2
    refine lv_iconst (pc := 18) (v := -1) hx hb dX4_feed_18 (by decide) ?_
    exact mr_iret hx hb hr rfl hlocks (wt_p1 hd) (wt_p2 hd) hW hK hS dX4_feed_19
noncomputable def dX4_in (a0 : Int32) (a1 : Int32) (a2 : Int32) : Option (Int32) :=
  if a0 < a1 then (some (0 : Int32)) else (if a2 < a0 then (some (0 : Int32)) else (some (1 : Int32)))
set_option maxHeartbeats 4000000 in
theorem wX4_in (l : Launch) {a0 : Int32} {a1 : Int32} {a2 : Int32} {out_ : Int32} (hd : dX4_in a0 a1 a2 = some out_) : Met l yX4_in (ws_ yX4_in cX4_in 3 (some .boolean)) ({ frames := 0, cells := 0, slots := 0, locals := 0 }) (va_Pc [.int a0, .int a1, .int a2] (fun _ => True)) (msQi out_) 0 0 (fun _ => False) := by
  refine Met.ofW (cc := cX4_in) (maxL := 3) (ret := (some .boolean)) (by decide) rfl ?_
  intro p_ e_ s_ m_ args_ below_ meth_ c_ s₁_ B hml hv
  obtain ⟨rfl, -⟩ := hv
  have hx := B.exec
  have hb := B.bytes
  have hr := B.returns
  have hts := atoms_spec (ws := (ws_ yX4_in cX4_in 3 (some .boolean))) B.pre
  have hts : ∀ w ∈ lw_all, w.before _ s_ = true := fun w h => hts w (List.mem_cons_of_mem _ h)
  have hown : s_.vm.findClass RX4 = some m_.cls := findClass_of_methodNamed B.named
  have hlocks := B.notSynchronized
  have hS : va_S (fun _ => False) s_.heap s_.heap [] := va_S.rf
  have hl := lv_entry ([.int a0, .int a1, .int a2]) (n := 3) (Nat.le_of_ble_eq_true rfl)
  rw [lg_entry_eq]
  generalize (lg_sl ([.int a0, .int a1, .int a2]) ++ List.replicate (3 - (lg_sl ([.int a0, .int a1, .int a2])).length) Slot.unset).toArray = ls at hl ⊢
  have hl : lv_has ls 3 [(0, .int a0), (1, .int a1), (2, .int a2)] := hl
  unfold dX4_in at hd
  refine lv_iload_n (pc := 0) hx hb dX4_in_0 rfl (lv_at hl 0 rfl) ?_
  refine lv_iload_n (pc := 1) hx hb dX4_in_1 rfl (lv_at hl 1 rfl) ?_
  refine lv_icmp_lt (pc := 2) (tgt := 14) hx hb dX4_in_2 (by decide) (fun c1 => ?_) (fun c1 => ?_)
  · have hd := wt_it hd c1
    refine lv_iconst (pc := 14) (v := 0) hx hb dX4_in_14 (by decide) ?_
    exact ms_iret hx hb hr rfl hlocks (Option.some.inj hd) hS dX4_in_15
  · have hd := wt_if hd c1
    refine lv_iload_n (pc := 5) hx hb dX4_in_5 rfl (lv_at hl 0 rfl) ?_
    refine lv_iload_n (pc := 6) hx hb dX4_in_6 rfl (lv_at hl 2 rfl) ?_
    refine lv_icmp_gt (pc := 7) (tgt := 14) hx hb dX4_in_7 (by decide) (fun c2 => ?_) (fun c2 => ?_)
    · have hd := wt_it hd c2
      refine lv_iconst (pc := 14) (v := 0) hx hb dX4_in_14 (by decide) ?_
      exact ms_iret hx hb hr rfl hlocks (Option.some.inj hd) hS dX4_in_15
    · have hd := wt_if hd c2
      refine lv_iconst (pc := 10) (v := 1) hx hb dX4_in_10 (by decide) ?_
      refine lv_goto (pc := 11) (tgt := 15) hx hb dX4_in_11 (by decide) ?_
      exact ms_iret hx hb hr rfl hlocks (Option.some.inj hd) hS dX4_in_15
theorem kX4_in {p : Program} {l : Launch} {e : Env} {R : Room} {s : State} {m : MethodId} {args : Array Value} {below : List Frame} {meth : Method} {c : Code} {H : Heap} {locs : List Loc} {cells slots : Nat} {Q : State → Prop} {cc : ByteArray} {pc : Nat} {ls : Array Slot} {rest : List Value} {H0 : Heap} {nL : Nat} {X : MPar} {σ : MSt} {A : Nat → Prop} {a0 : Int32} {a1 : Int32} {a2 : Int32} {out_ : Int32} (hx : p.tables.exec = Jvm.exec) (hb : c.code = cc) (hml : c.maxLocals = nL) (hown : s.vm.findClass RX4 = some m.cls) (hts : ∀ w ∈ lw_all, w.before args s = true) (hK : mK X s) (hW : mW X σ H) (hS : va_S A H0 H locs) (hd : dX4_in a0 a1 a2 = some out_) (hsz : ls.size = nL) (hrm : (rest.map fun v => v.category).sum ≤ 8) (hR : 1 ≤ R.frames ∧ 22 ≤ R.locals) (hcs : cells ≤ R.cells ∧ slots ≤ R.slots) (hdg : decode cc pc = .ok (.invokestatic 128, 3)) (kk : ∀ (H1 : Heap) (locs1 : List Loc), mW X σ H1 → va_S A H0 H1 locs1 → W p l e R s m args below meth c H1 locs1 cells slots Q (F0 m (pc + 3) ls (.int out_ :: rest))) : W p l e R s m args below meth c H locs cells slots Q (F0 m pc ls (.int a2 :: .int a1 :: .int a0 :: rest)) := by
  refine va_calli (va_runS (As := [.int a0, .int a1, .int a2]) (rest := rest) ⟨hx, hb, hml, hown, hts⟩ (wX4_in l hd) (va_cwS 3 hts (lw_S q1692 q1693 q88 q1694) rfl rfl rfl (by decide +kernel) hR) ms_pre rfl rfl hsz rfl (lv_room hrm) hdg hcs) hS (fun _ _ h => h.elim) (fun _ h => h.elim) (fun r u t H1 locs1 ht hvm hp hB hz hk hS1 => ?_)
  have hp : r = out_ := hp
  subst hp
  exact kk H1 locs1 (hW.kept fun q hq => hk q hq (fun h => h)) hS1
noncomputable def dX4_bad (σ : MSt) (a0 : Int32) (a1 : Int32) : Option (Int32 × MSt) :=
  wt_bd (if a0 = 0 then (some (σ)) else (if (σ.1 0) = 0 then (wt_lt (m_sF σ 0 a1) fun σ7 => some (σ7)) else (some (σ)))) fun w1 => if (w1.1 0) = 0 then (some ((0 : Int32), w1)) else (some ((1 : Int32), w1))
set_option maxHeartbeats 4000000 in
theorem wX4_bad (l : Launch) {X : MPar} {lo hi : Nat} (hJ : mJ X lo hi) {σ : MSt} {a0 : Int32} {a1 : Int32} {out_ : Int32 × MSt} (hd : dX4_bad σ a0 a1 = some out_) : Met l yX4_bad (ws_ yX4_bad cX4_bad 3 (some .boolean)) ({ frames := 0, cells := 0, slots := 0, locals := 0 }) (mP X σ [.ref X.1.1, .int a0, .int a1]) (mQi X out_.1 out_.2 (mA lo hi)) 0 0 (mA lo hi) := by
  refine Met.ofW (cc := cX4_bad) (maxL := 3) (ret := (some .boolean)) (by decide) rfl ?_
  intro p_ e_ s_ m_ args_ below_ meth_ c_ s₁_ B hml hv
  obtain ⟨rfl, hW, hK⟩ := hv
  have hx := B.exec
  have hb := B.bytes
  have hr := B.returns
  have hts := atoms_spec (ws := (ws_ yX4_bad cX4_bad 3 (some .boolean))) B.pre
  have hts : ∀ w ∈ lw_all, w.before _ s_ = true := fun w h => hts w (List.mem_cons_of_mem _ h)
  have hown : s_.vm.findClass RX4 = some m_.cls := findClass_of_methodNamed B.named
  have hlocks := B.notSynchronized
  have hS : va_S (mA lo hi) s_.heap s_.heap [] := va_S.rf
  have hl := lv_entry ([.ref X.1.1, .int a0, .int a1]) (n := 3) (Nat.le_of_ble_eq_true rfl)
  rw [lg_entry_eq]
  generalize (lg_sl ([.ref X.1.1, .int a0, .int a1]) ++ List.replicate (3 - (lg_sl ([.ref X.1.1, .int a0, .int a1])).length) Slot.unset).toArray = ls at hl ⊢
  have hl : lv_has ls 3 [(0, .ref X.1.1), (1, .int a0), (2, .int a1)] := hl
  unfold dX4_bad at hd
  refine lv_iload_n (pc := 0) hx hb dX4_bad_0 rfl (lv_at hl 1 rfl) ?_
  obtain ⟨w1, hj2, hq3⟩ := wt_bd_o hd
  have hX4 : ∀ w1_ : MSt, w1_ = w1 → ∀ (H : Heap) (locs : List Loc) (ls : Array Slot), mW X w1_ H → va_S (mA lo hi) s_.heap H locs → lv_has ls 3 [(0, .ref X.1.1)] → W p_ l e_ (headSpec (ws_ yX4_bad cX4_bad 3 (some .boolean)) ({ frames := 0, cells := 0, slots := 0, locals := 0 })).room s_ m_ ([.ref X.1.1, .int a0, .int a1] : List Value).toArray below_ meth_ c_ H locs 0 0 (MQ below_ (mQi X out_.1 out_.2 (mA lo hi)) ([.ref X.1.1, .int a0, .int a1] : List Value).toArray s_ 0 0 (mA lo hi)) (F0 m_ 16 ls []) := by
    intro w1_ hw_
    have hd := hq3
    subst hw_
    clear hj2 hq3
    intro H locs ls hW hS hl
    refine lv_aload_n (pc := 16) hx hb dX4_bad_16 rfl (lv_at hl 0 rfl) ?_
    refine mr_get (pc := 17) (k := 0) (v := .int ((w1_.1 0))) hx hb hts hown hK hW (by decide) rfl q1529 dX4_bad_17 ?_
    refine lv_if_eq (pc := 20) (tgt := 27) hx hb dX4_bad_20 (by decide) (fun c8 => ?_) (fun c8 => ?_)
    · have hd := wt_it hd c8
      refine lv_iconst (pc := 27) (v := 0) hx hb dX4_bad_27 (by decide) ?_
      exact mr_iret hx hb hr rfl hlocks (wt_p1 hd) (wt_p2 hd) hW hK hS dX4_bad_28
    · have hd := wt_if hd c8
      refine lv_iconst (pc := 23) (v := 1) hx hb dX4_bad_23 (by decide) ?_
      refine lv_goto (pc := 24) (tgt := 28) hx hb dX4_bad_24 (by decide) ?_
      exact mr_iret hx hb hr rfl hlocks (wt_p1 hd) (wt_p2 hd) hW hK hS dX4_bad_28
  have hd := hj2
  refine lv_if_eq (pc := 1) (tgt := 16) hx hb dX4_bad_1 (by decide) (fun c5 => ?_) (fun c5 => ?_)
  · have hd := wt_it hd c5
    exact hX4 σ (Option.some.inj hd) _ _ _ hW hS (lv_sub hl [0] rfl)
  · have hd := wt_if hd c5
    refine lv_aload_n (pc := 4) hx hb dX4_bad_4 rfl (lv_at hl 0 rfl) ?_
    refine mr_get (pc := 5) (k := 0) (v := .int ((σ.1 0))) hx hb hts hown hK hW (by decide) rfl q1529 dX4_bad_5 ?_
    refine lv_if_ne (pc := 8) (tgt := 16) hx hb dX4_bad_8 (by decide) (fun c6 => ?_) (fun c6 => ?_)
    · have hd := wt_if hd c6
      exact hX4 σ (Option.some.inj hd) _ _ _ hW hS (lv_sub hl [0] rfl)
    · have hd := wt_it hd c6
      refine lv_aload_n (pc := 11) hx hb dX4_bad_11 rfl (lv_at hl 0 rfl) ?_
      refine lv_iload_n (pc := 12) hx hb dX4_bad_12 rfl (lv_at hl 2 rfl) ?_
      obtain ⟨σ7, eσ7, hd⟩ := wt_lt_o hd
      refine mr_put (pc := 13) (k := 0) hx hb hts hown hK hW hJ hS (by decide) rfl eσ7 q1529 dX4_bad_13 (fun H locs hW hS => ?_)
      exact hX4 σ7 (Option.some.inj hd) _ _ _ hW hS (lv_sub hl [0] rfl)
theorem kX4_bad {p : Program} {l : Launch} {e : Env} {R : Room} {s : State} {m : MethodId} {args : Array Value} {below : List Frame} {meth : Method} {c : Code} {H : Heap} {locs : List Loc} {cells slots : Nat} {Q : State → Prop} {cc : ByteArray} {pc : Nat} {ls : Array Slot} {rest : List Value} {H0 : Heap} {nL : Nat} {X : MPar} {lo hi : Nat} {σ : MSt} {a0 : Int32} {a1 : Int32} {out_ : Int32 × MSt} (hx : p.tables.exec = Jvm.exec) (hb : c.code = cc) (hml : c.maxLocals = nL) (hown : s.vm.findClass RX4 = some m.cls) (hts : ∀ w ∈ lw_all, w.before args s = true) (hK : mK X s) (hJ : mJ X lo hi) (hW : mW X σ H) (hS : va_S (mA lo hi) H0 H locs) (hd : dX4_bad σ a0 a1 = some out_) (hsz : ls.size = nL) (hrm : (rest.map fun v => v.category).sum ≤ 8) (hR : 1 ≤ R.frames ∧ 22 ≤ R.locals) (hcs : cells ≤ R.cells ∧ slots ≤ R.slots) (hdg : decode cc pc = .ok (.invokevirtual 170, 3)) (kk : ∀ (H1 : Heap) (locs1 : List Loc), mW X out_.2 H1 → va_S (mA lo hi) H0 H1 locs1 → W p l e R s m args below meth c H1 locs1 cells slots Q (F0 m (pc + 3) ls (.int out_.1 :: rest))) : W p l e R s m args below meth c H locs cells slots Q (F0 m pc ls (.int a1 :: .int a0 :: .ref X.1.1 :: rest)) := by
  refine va_calli (va_runV (As := [.int a0, .int a1]) (rest := rest) ⟨hx, hb, hml, hown, hts⟩ (wX4_bad l hJ hd) (cwV 2 hts (lw_V q1695 q1697 qs25 q88 q1698) rfl rfl rfl (by decide +kernel) hR) (mr_pre hK hW) rfl rfl hsz rfl (lv_room hrm) hdg hcs) hS (fun _ _ h => h) (fun _ h => h) (fun r u t H1 locs1 ht hvm hp hB hz hk hS1 => ?_)
  have hp : r = out_.1 := hp
  subst hp
  have hW1 : mW X out_.2 t.heap := hB.1
  rw [ht] at hW1
  exact kk H1 locs1 hW1 hS1
noncomputable def dX4_byteAt (σ : MSt) (a0 : Int32) : Option (Int32) :=
  if a0 < (σ.1 2) then (wt_ck (vp_in a0 400) <| some (σ.2.1 7 a0.toNatClampNeg)) else (some (-1 : Int32))
set_option maxHeartbeats 4000000 in
theorem wX4_byteAt (l : Launch) {X : MPar} {lo hi : Nat} (hJ : mJ X lo hi) {σ : MSt} {a0 : Int32} {out_ : Int32} (hd : dX4_byteAt σ a0 = some out_) : Met l yX4_byteAt (ws_ yX4_byteAt cX4_byteAt 2 (some .int)) ({ frames := 0, cells := 0, slots := 0, locals := 0 }) (mP X σ [.ref X.1.1, .int a0]) (mQi X out_ σ (mA lo hi)) 0 0 (mA lo hi) := by
  refine Met.ofW (cc := cX4_byteAt) (maxL := 2) (ret := (some .int)) (by decide) rfl ?_
  intro p_ e_ s_ m_ args_ below_ meth_ c_ s₁_ B hml hv
  obtain ⟨rfl, hW, hK⟩ := hv
  have hx := B.exec
  have hb := B.bytes
  have hr := B.returns
  have hts := atoms_spec (ws := (ws_ yX4_byteAt cX4_byteAt 2 (some .int))) B.pre
  have hts : ∀ w ∈ lw_all, w.before _ s_ = true := fun w h => hts w (List.mem_cons_of_mem _ h)
  have hown : s_.vm.findClass RX4 = some m_.cls := findClass_of_methodNamed B.named
  have hlocks := B.notSynchronized
  have hS : va_S (mA lo hi) s_.heap s_.heap [] := va_S.rf
  have hl := lv_entry ([.ref X.1.1, .int a0]) (n := 2) (Nat.le_of_ble_eq_true rfl)
  rw [lg_entry_eq]
  generalize (lg_sl ([.ref X.1.1, .int a0]) ++ List.replicate (2 - (lg_sl ([.ref X.1.1, .int a0])).length) Slot.unset).toArray = ls at hl ⊢
  have hl : lv_has ls 2 [(0, .ref X.1.1), (1, .int a0)] := hl
  unfold dX4_byteAt at hd
  refine lv_iload_n (pc := 0) hx hb dX4_byteAt_0 rfl (lv_at hl 1 rfl) ?_
  refine lv_aload_n (pc := 1) hx hb dX4_byteAt_1 rfl (lv_at hl 0 rfl) ?_
  refine mr_get (pc := 2) (k := 2) (v := .int ((σ.1 2))) hx hb hts hown hK hW (by decide) rfl q1531 dX4_byteAt_2 ?_
  refine lv_icmp_lt (pc := 5) (tgt := 12) hx hb dX4_byteAt_5 (by decide) (fun c1 => ?_) (fun c1 => ?_)
  · have hd := wt_it hd c1
    refine lv_aload_n (pc := 12) hx hb dX4_byteAt_12 rfl (lv_at hl 0 rfl) ?_
    refine mr_get (pc := 13) (k := 7) (v := .ref (X.1.2.1 7)) hx hb hts hown hK hW (by decide) rfl q1536 dX4_byteAt_13 ?_
    refine lv_iload_n (pc := 16) hx hb dX4_byteAt_16 rfl (lv_at hl 1 rfl) ?_
    obtain ⟨h2, hd⟩ := wt_ck_o hd
    refine mr_ald (pc := 17) (k := 7) hx hb hK hW rfl h2 dX4_byteAt_17 ?_
    exact mr_iret hx hb hr rfl hlocks (Option.some.inj hd) rfl hW hK hS dX4_byteAt_18
  · have hd := wt_if hd c1
    refine lv_iconst (pc := 8) (v := -1) hx hb dX4_byteAt_8 (by decide) ?_
    refine lv_goto (pc := 9) (tgt := 18) hx hb dX4_byteAt_9 (by decide) ?_
    exact mr_iret hx hb hr rfl hlocks (Option.some.inj hd) rfl hW hK hS dX4_byteAt_18
theorem kX4_byteAt {p : Program} {l : Launch} {e : Env} {R : Room} {s : State} {m : MethodId} {args : Array Value} {below : List Frame} {meth : Method} {c : Code} {H : Heap} {locs : List Loc} {cells slots : Nat} {Q : State → Prop} {cc : ByteArray} {pc : Nat} {ls : Array Slot} {rest : List Value} {H0 : Heap} {nL : Nat} {X : MPar} {lo hi : Nat} {σ : MSt} {a0 : Int32} {out_ : Int32} (hx : p.tables.exec = Jvm.exec) (hb : c.code = cc) (hml : c.maxLocals = nL) (hown : s.vm.findClass RX4 = some m.cls) (hts : ∀ w ∈ lw_all, w.before args s = true) (hK : mK X s) (hJ : mJ X lo hi) (hW : mW X σ H) (hS : va_S (mA lo hi) H0 H locs) (hd : dX4_byteAt σ a0 = some out_) (hsz : ls.size = nL) (hrm : (rest.map fun v => v.category).sum ≤ 8) (hR : 1 ≤ R.frames ∧ 21 ≤ R.locals) (hcs : cells ≤ R.cells ∧ slots ≤ R.slots) (hdg : decode cc pc = .ok (.invokevirtual 106, 3)) (kk : ∀ (H1 : Heap) (locs1 : List Loc), mW X σ H1 → va_S (mA lo hi) H0 H1 locs1 → W p l e R s m args below meth c H1 locs1 cells slots Q (F0 m (pc + 3) ls (.int out_ :: rest))) : W p l e R s m args below meth c H locs cells slots Q (F0 m pc ls (.int a0 :: .ref X.1.1 :: rest)) := by
  refine va_calli (va_runV (As := [.int a0]) (rest := rest) ⟨hx, hb, hml, hown, hts⟩ (wX4_byteAt l hJ hd) (cwV 1 hts (lw_V q1707 q1709 qs28 q88 q1710) rfl rfl rfl (by decide +kernel) hR) (mr_pre hK hW) rfl rfl hsz rfl (lv_room hrm) hdg hcs) hS (fun _ _ h => h) (fun _ h => h) (fun r u t H1 locs1 ht hvm hp hB hz hk hS1 => ?_)
  have hp : r = out_ := hp
  subst hp
  have hW1 : mW X σ t.heap := hB.1
  rw [ht] at hW1
  exact kk H1 locs1 hW1 hS1
noncomputable def bX4_blanks_1  (v1 : MSt) : Option ((MSt) ⊕ (MSt)) :=
  wt_bd (dX4_byteAt v1 (v1.1 4)) fun w11 => if w11 = (32 : Int32) then (wt_lt (m_sF v1 4 ((v1.1 4) + (1 : Int32))) fun σ14 => some (.inl σ14)) else (some (.inr v1))
noncomputable def dX4_blanks (σ : MSt)  : Option (MSt) :=
  wt_bd (wt_whC (bX4_blanks_1) σ) fun w2 => some w2
set_option maxHeartbeats 4000000 in
theorem wX4_blanks (l : Launch) {X : MPar} {lo hi : Nat} (hJ : mJ X lo hi) {σ : MSt}  {out_ : MSt} (hd : dX4_blanks σ = some out_) : Met l yX4_blanks (ws_ yX4_blanks cX4_blanks 1 none) ({ frames := 1, cells := 0, slots := 0, locals := 21 }) (mP X σ [.ref X.1.1]) (mQv X out_ (mA lo hi)) 0 0 (mA lo hi) := by
  refine Met.ofW (cc := cX4_blanks) (maxL := 1) (ret := none) (by decide) rfl ?_
  intro p_ e_ s_ m_ args_ below_ meth_ c_ s₁_ B hml hv
  obtain ⟨rfl, hW, hK⟩ := hv
  have hx := B.exec
  have hb := B.bytes
  have hr := B.returns
  have hts := atoms_spec (ws := (ws_ yX4_blanks cX4_blanks 1 none)) B.pre
  have hts : ∀ w ∈ lw_all, w.before _ s_ = true := fun w h => hts w (List.mem_cons_of_mem _ h)
  have hown : s_.vm.findClass RX4 = some m_.cls := findClass_of_methodNamed B.named
  have hlocks := B.notSynchronized
  have hS : va_S (mA lo hi) s_.heap s_.heap [] := va_S.rf
  have hl := lv_entry ([.ref X.1.1]) (n := 1) (Nat.le_of_ble_eq_true rfl)
  rw [lg_entry_eq]
  generalize (lg_sl ([.ref X.1.1]) ++ List.replicate (1 - (lg_sl ([.ref X.1.1])).length) Slot.unset).toArray = ls at hl ⊢
  have hl : lv_has ls 1 [(0, .ref X.1.1)] := hl
  unfold dX4_blanks at hd
  obtain ⟨w2, hL3, hq4⟩ := wt_bd_o hd
  have hX5 : ∀ w2_ : MSt, w2_ = w2 → ∀ (H : Heap) (locs : List Loc) (ls : Array Slot), mW X w2_ H → va_S (mA lo hi) s_.heap H locs → lv_has ls 1 [] → W p_ l e_ (headSpec (ws_ yX4_blanks cX4_blanks 1 none) ({ frames := 1, cells := 0, slots := 0, locals := 21 })).room s_ m_ ([.ref X.1.1] : List Value).toArray below_ meth_ c_ H locs 0 0 (MQ below_ (mQv X out_ (mA lo hi)) ([.ref X.1.1] : List Value).toArray s_ 0 0 (mA lo hi)) (F0 m_ 26 ls []) := by
    intro w2_ hw_
    have hd := hq4
    subst hw_
    clear hL3 hq4
    intro H locs ls hW hS hl
    exact mr_vret hx hb hr hlocks (Option.some.inj hd) hW hK hS dX4_blanks_26
  have hI10 : ∀ (k9 : Nat) (v1 : MSt), wt_wh (bX4_blanks_1) k9 v1 = some w2 → ∀ (H : Heap) (locs : List Loc) (ls : Array Slot), mW X v1 H → va_S (mA lo hi) s_.heap H locs → lv_has ls 1 [(0, .ref X.1.1)] → W p_ l e_ (headSpec (ws_ yX4_blanks cX4_blanks 1 none) ({ frames := 1, cells := 0, slots := 0, locals := 21 })).room s_ m_ ([.ref X.1.1] : List Value).toArray below_ meth_ c_ H locs 0 0 (MQ below_ (mQv X out_ (mA lo hi)) ([.ref X.1.1] : List Value).toArray s_ 0 0 (mA lo hi)) (F0 m_ 0 ls []) := by
    intro k9
    induction k9 with
    | zero => intro v1 hd; exact absurd hd wt_wh_z
    | succ k9 ih7 =>
      intro v1 hd
      intro H locs ls hW hS hl
      obtain ⟨r8, hd, hk6⟩ := wt_wh_o hd
      unfold bX4_blanks_1 at hd
      refine lv_aload_n (pc := 0) hx hb dX4_blanks_0 rfl (lv_at hl 0 rfl) ?_
      refine lv_aload_n (pc := 1) hx hb dX4_blanks_1 rfl (lv_at hl 0 rfl) ?_
      refine mr_get (pc := 2) (k := 4) (v := .int ((v1.1 4))) hx hb hts hown hK hW (by decide) rfl q1533 dX4_blanks_2 ?_
      obtain ⟨w11, hc12, hd⟩ := wt_bd_o hd
      refine kX4_byteAt (pc := 5) hx hb hml hown hts hK hJ hW hS hc12 hl.1 (Nat.le_of_ble_eq_true rfl) ⟨Nat.le_of_ble_eq_true rfl, Nat.le_of_ble_eq_true rfl⟩ ⟨Nat.le_refl _, Nat.le_refl _⟩ dX4_blanks_5 (fun H locs hW hS => ?_)
      refine lv_bipush (pc := 8) (v := 32) hx hb dX4_blanks_8 (by decide) ?_
      refine lv_icmp_ne (pc := 10) (tgt := 26) hx hb dX4_blanks_10 (by decide) (fun c13 => ?_) (fun c13 => ?_)
      · have hd := wt_if hd c13
        exact hX5 v1 (wt_exit hd hk6) _ _ _ hW hS (lv_sub hl [] rfl)
      · have hd := wt_it hd c13
        refine lv_aload_n (pc := 13) hx hb dX4_blanks_13 rfl (lv_at hl 0 rfl) ?_
        refine lv_dup (pc := 14) hx hb dX4_blanks_14 rfl ?_
        refine mr_get (pc := 15) (k := 4) (v := .int ((v1.1 4))) hx hb hts hown hK hW (by decide) rfl q1533 dX4_blanks_15 ?_
        refine lv_iconst (pc := 18) (v := 1) hx hb dX4_blanks_18 (by decide) ?_
        refine lv_iadd (pc := 19) hx hb dX4_blanks_19 ?_
        obtain ⟨σ14, eσ14, hd⟩ := wt_lt_o hd
        refine mr_put (pc := 20) (k := 4) hx hb hts hown hK hW hJ hS (by decide) rfl eσ14 q1533 dX4_blanks_20 (fun H locs hW hS => ?_)
        refine lv_goto (pc := 23) (tgt := 0) hx hb dX4_blanks_23 (by decide) ?_
        exact ih7 _ (wt_again hd hk6) _ _ _ hW hS hl
  obtain ⟨k9, hL3⟩ := wt_whC_o hL3
  exact hI10 k9 _ hL3 _ _ _ hW hS hl
theorem kX4_blanks {p : Program} {l : Launch} {e : Env} {R : Room} {s : State} {m : MethodId} {args : Array Value} {below : List Frame} {meth : Method} {c : Code} {H : Heap} {locs : List Loc} {cells slots : Nat} {Q : State → Prop} {cc : ByteArray} {pc : Nat} {ls : Array Slot} {rest : List Value} {H0 : Heap} {nL : Nat} {X : MPar} {lo hi : Nat} {σ : MSt}  {out_ : MSt} (hx : p.tables.exec = Jvm.exec) (hb : c.code = cc) (hml : c.maxLocals = nL) (hown : s.vm.findClass RX4 = some m.cls) (hts : ∀ w ∈ lw_all, w.before args s = true) (hK : mK X s) (hJ : mJ X lo hi) (hW : mW X σ H) (hS : va_S (mA lo hi) H0 H locs) (hd : dX4_blanks σ = some out_) (hsz : ls.size = nL) (hrm : (rest.map fun v => v.category).sum ≤ 8) (hR : 2 ≤ R.frames ∧ 41 ≤ R.locals) (hcs : cells ≤ R.cells ∧ slots ≤ R.slots) (hdg : decode cc pc = .ok (.invokevirtual 116, 3)) (kk : ∀ (H1 : Heap) (locs1 : List Loc), mW X out_ H1 → va_S (mA lo hi) H0 H1 locs1 → W p l e R s m args below meth c H1 locs1 cells slots Q (F0 m (pc + 3) ls (rest))) : W p l e R s m args below meth c H locs cells slots Q (F0 m pc ls (.ref X.1.1 :: rest)) := by
  refine va_callv (va_runV (As := []) (rest := rest) ⟨hx, hb, hml, hown, hts⟩ (wX4_blanks l hJ hd) (cwV 0 hts (lw_V q1703 q1705 qs27 q88 q1706) rfl rfl rfl (by decide +kernel) hR) (mr_pre hK hW) rfl rfl hsz rfl (lv_room hrm) hdg hcs) hS (fun _ _ h => h) (fun _ h => h) (fun u t H1 locs1 ht hvm hp hB hz hk hS1 => ?_)
  have hW1 : mW X out_ t.heap := hB.1
  rw [ht] at hW1
  exact kk H1 locs1 hW1 hS1
noncomputable def dX4_begins (σ : MSt) (a0 : Int32) : Option (MSt) :=
  wt_lt (m_sF σ 2 a0) fun σ1 => wt_lt (m_sF σ1 1 (0 : Int32)) fun σ2 => wt_lt (m_sF σ2 4 (0 : Int32)) fun σ3 => wt_lt (m_sF σ3 5 (0 : Int32)) fun σ4 => wt_lt (m_sF σ4 6 (-1 : Int32)) fun σ5 => wt_bd (dX4_blanks σ5) fun w6 => some w6
set_option maxHeartbeats 4000000 in
theorem wX4_begins (l : Launch) {X : MPar} {lo hi : Nat} (hJ : mJ X lo hi) {σ : MSt} {a0 : Int32} {out_ : MSt} (hd : dX4_begins σ a0 = some out_) : Met l yX4_begins (ws_ yX4_begins cX4_begins 2 none) ({ frames := 2, cells := 0, slots := 0, locals := 41 }) (mP X σ [.ref X.1.1, .int a0]) (mQv X out_ (mA lo hi)) 0 0 (mA lo hi) := by
  refine Met.ofW (cc := cX4_begins) (maxL := 2) (ret := none) (by decide) rfl ?_
  intro p_ e_ s_ m_ args_ below_ meth_ c_ s₁_ B hml hv
  obtain ⟨rfl, hW, hK⟩ := hv
  have hx := B.exec
  have hb := B.bytes
  have hr := B.returns
  have hts := atoms_spec (ws := (ws_ yX4_begins cX4_begins 2 none)) B.pre
  have hts : ∀ w ∈ lw_all, w.before _ s_ = true := fun w h => hts w (List.mem_cons_of_mem _ h)
  have hown : s_.vm.findClass RX4 = some m_.cls := findClass_of_methodNamed B.named
  have hlocks := B.notSynchronized
  have hS : va_S (mA lo hi) s_.heap s_.heap [] := va_S.rf
  have hl := lv_entry ([.ref X.1.1, .int a0]) (n := 2) (Nat.le_of_ble_eq_true rfl)
  rw [lg_entry_eq]
  generalize (lg_sl ([.ref X.1.1, .int a0]) ++ List.replicate (2 - (lg_sl ([.ref X.1.1, .int a0])).length) Slot.unset).toArray = ls at hl ⊢
  have hl : lv_has ls 2 [(0, .ref X.1.1), (1, .int a0)] := hl
  unfold dX4_begins at hd
  refine lv_aload_n (pc := 0) hx hb dX4_begins_0 rfl (lv_at hl 0 rfl) ?_
  refine lv_iload_n (pc := 1) hx hb dX4_begins_1 rfl (lv_at hl 1 rfl) ?_
  obtain ⟨σ1, eσ1, hd⟩ := wt_lt_o hd
  refine mr_put (pc := 2) (k := 2) hx hb hts hown hK hW hJ hS (by decide) rfl eσ1 q1531 dX4_begins_2 (fun H locs hW hS => ?_)
  refine lv_aload_n (pc := 5) hx hb dX4_begins_5 rfl (lv_at hl 0 rfl) ?_
  refine lv_iconst (pc := 6) (v := 0) hx hb dX4_begins_6 (by decide) ?_
  obtain ⟨σ2, eσ2, hd⟩ := wt_lt_o hd
  refine mr_put (pc := 7) (k := 1) hx hb hts hown hK hW hJ hS (by decide) rfl eσ2 q1530 dX4_begins_7 (fun H locs hW hS => ?_)
  refine lv_aload_n (pc := 10) hx hb dX4_begins_10 rfl (lv_at hl 0 rfl) ?_
  refine lv_iconst (pc := 11) (v := 0) hx hb dX4_begins_11 (by decide) ?_
  obtain ⟨σ3, eσ3, hd⟩ := wt_lt_o hd
  refine mr_put (pc := 12) (k := 4) hx hb hts hown hK hW hJ hS (by decide) rfl eσ3 q1533 dX4_begins_12 (fun H locs hW hS => ?_)
  refine lv_aload_n (pc := 15) hx hb dX4_begins_15 rfl (lv_at hl 0 rfl) ?_
  refine lv_iconst (pc := 16) (v := 0) hx hb dX4_begins_16 (by decide) ?_
  obtain ⟨σ4, eσ4, hd⟩ := wt_lt_o hd
  refine mr_put (pc := 17) (k := 5) hx hb hts hown hK hW hJ hS (by decide) rfl eσ4 q1534 dX4_begins_17 (fun H locs hW hS => ?_)
  refine lv_aload_n (pc := 20) hx hb dX4_begins_20 rfl (lv_at hl 0 rfl) ?_
  refine lv_iconst (pc := 21) (v := -1) hx hb dX4_begins_21 (by decide) ?_
  obtain ⟨σ5, eσ5, hd⟩ := wt_lt_o hd
  refine mr_put (pc := 22) (k := 6) hx hb hts hown hK hW hJ hS (by decide) rfl eσ5 q1535 dX4_begins_22 (fun H locs hW hS => ?_)
  refine lv_aload_n (pc := 25) hx hb dX4_begins_25 rfl (lv_at hl 0 rfl) ?_
  obtain ⟨w6, hc7, hd⟩ := wt_bd_o hd
  refine kX4_blanks (pc := 26) hx hb hml hown hts hK hJ hW hS hc7 hl.1 (Nat.le_of_ble_eq_true rfl) ⟨Nat.le_of_ble_eq_true rfl, Nat.le_of_ble_eq_true rfl⟩ ⟨Nat.le_refl _, Nat.le_refl _⟩ dX4_begins_26 (fun H locs hW hS => ?_)
  exact mr_vret hx hb hr hlocks (Option.some.inj hd) hW hK hS dX4_begins_29
theorem kX4_begins {p : Program} {l : Launch} {e : Env} {R : Room} {s : State} {m : MethodId} {args : Array Value} {below : List Frame} {meth : Method} {c : Code} {H : Heap} {locs : List Loc} {cells slots : Nat} {Q : State → Prop} {cc : ByteArray} {pc : Nat} {ls : Array Slot} {rest : List Value} {H0 : Heap} {nL : Nat} {X : MPar} {lo hi : Nat} {σ : MSt} {a0 : Int32} {out_ : MSt} (hx : p.tables.exec = Jvm.exec) (hb : c.code = cc) (hml : c.maxLocals = nL) (hown : s.vm.findClass RX4 = some m.cls) (hts : ∀ w ∈ lw_all, w.before args s = true) (hK : mK X s) (hJ : mJ X lo hi) (hW : mW X σ H) (hS : va_S (mA lo hi) H0 H locs) (hd : dX4_begins σ a0 = some out_) (hsz : ls.size = nL) (hrm : (rest.map fun v => v.category).sum ≤ 8) (hR : 3 ≤ R.frames ∧ 62 ≤ R.locals) (hcs : cells ≤ R.cells ∧ slots ≤ R.slots) (hdg : decode cc pc = .ok (.invokevirtual 174, 3)) (kk : ∀ (H1 : Heap) (locs1 : List Loc), mW X out_ H1 → va_S (mA lo hi) H0 H1 locs1 → W p l e R s m args below meth c H1 locs1 cells slots Q (F0 m (pc + 3) ls (rest))) : W p l e R s m args below meth c H locs cells slots Q (F0 m pc ls (.int a0 :: .ref X.1.1 :: rest)) := by
  refine va_callv (va_runV (As := [.int a0]) (rest := rest) ⟨hx, hb, hml, hown, hts⟩ (wX4_begins l hJ hd) (cwV 1 hts (lw_V q1699 q1701 qs26 q88 q1702) rfl rfl rfl (by decide +kernel) hR) (mr_pre hK hW) rfl rfl hsz rfl (lv_room hrm) hdg hcs) hS (fun _ _ h => h) (fun _ h => h) (fun u t H1 locs1 ht hvm hp hB hz hk hS1 => ?_)
  have hW1 : mW X out_ t.heap := hB.1
  rw [ht] at hW1
  exact kk H1 locs1 hW1 hS1
noncomputable def bX4_wordHere_1 (w1 : MSt) (v3 : Int32 × Int32) : Option ((Int32 × Int32) ⊕ (Int32 × Int32)) :=
  wt_bd (dX4_byteAt w1 ((w1.1 4) + v3.2)) fun w13 => if w13 < (97 : Int32) then (some (.inr (v3.1, v3.2))) else (wt_bd (dX4_byteAt w1 ((w1.1 4) + v3.2)) fun w16 => if (122 : Int32) < w16 then (some (.inr (v3.1, v3.2))) else (if (6 : Int32) ≤ v3.2 then (wt_lt (v3.2 + (1 : Int32)) fun n20 => some (.inl (v3.1, n20))) else (wt_bd (dX4_byteAt w1 ((w1.1 4) + v3.2)) fun w21 => wt_lt ((((((27 : Int32) * v3.1) + w21) - (97 : Int32)) + (1 : Int32))) fun n23 => wt_lt (v3.2 + (1 : Int32)) fun n24 => some (.inl (n23, n24)))))
noncomputable def dX4_wordHere (σ : MSt)  : Option (Int32 × MSt) :=
  wt_bd (dX4_blanks σ) fun w1 => wt_bd (wt_whC (bX4_wordHere_1 w1) ((0 : Int32), (0 : Int32))) fun w4 => if w4.2 ≤ (6 : Int32) then (some (w4.1, w1)) else (some ((-1 : Int32), w1))
set_option maxHeartbeats 4000000 in
theorem wX4_wordHere (l : Launch) {X : MPar} {lo hi : Nat} (hJ : mJ X lo hi) {σ : MSt}  {out_ : Int32 × MSt} (hd : dX4_wordHere σ = some out_) : Met l yX4_wordHere (ws_ yX4_wordHere cX4_wordHere 3 (some .int)) ({ frames := 2, cells := 0, slots := 0, locals := 41 }) (mP X σ [.ref X.1.1]) (mQi X out_.1 out_.2 (mA lo hi)) 0 0 (mA lo hi) := by
  refine Met.ofW (cc := cX4_wordHere) (maxL := 3) (ret := (some .int)) (by decide) rfl ?_
  intro p_ e_ s_ m_ args_ below_ meth_ c_ s₁_ B hml hv
  obtain ⟨rfl, hW, hK⟩ := hv
  have hx := B.exec
  have hb := B.bytes
  have hr := B.returns
  have hts := atoms_spec (ws := (ws_ yX4_wordHere cX4_wordHere 3 (some .int))) B.pre
  have hts : ∀ w ∈ lw_all, w.before _ s_ = true := fun w h => hts w (List.mem_cons_of_mem _ h)
  have hown : s_.vm.findClass RX4 = some m_.cls := findClass_of_methodNamed B.named
  have hlocks := B.notSynchronized
  have hS : va_S (mA lo hi) s_.heap s_.heap [] := va_S.rf
  have hl := lv_entry ([.ref X.1.1]) (n := 3) (Nat.le_of_ble_eq_true rfl)
  rw [lg_entry_eq]
  generalize (lg_sl ([.ref X.1.1]) ++ List.replicate (3 - (lg_sl ([.ref X.1.1])).length) Slot.unset).toArray = ls at hl ⊢
  have hl : lv_has ls 3 [(0, .ref X.1.1)] := hl
  unfold dX4_wordHere at hd
  refine lv_aload_n (pc := 0) hx hb dX4_wordHere_0 rfl (lv_at hl 0 rfl) ?_
  obtain ⟨w1, hc2, hd⟩ := wt_bd_o hd
  refine kX4_blanks (pc := 1) hx hb hml hown hts hK hJ hW hS hc2 hl.1 (Nat.le_of_ble_eq_true rfl) ⟨Nat.le_of_ble_eq_true rfl, Nat.le_of_ble_eq_true rfl⟩ ⟨Nat.le_refl _, Nat.le_refl _⟩ dX4_wordHere_1 (fun H locs hW hS => ?_)
  refine lv_iconst (pc := 4) (v := 0) hx hb dX4_wordHere_4 (by decide) ?_
  refine lv_istore_n (pc := 5) (lv' := [(1, .int (0 : Int32)), (0, .ref X.1.1)]) hx hb dX4_wordHere_5 rfl hl (by decide) rfl (fun ls hl => ?_)
  refine lv_iconst (pc := 6) (v := 0) hx hb dX4_wordHere_6 (by decide) ?_
  refine lv_istore_n (pc := 7) (lv' := [(2, .int (0 : Int32)), (1, .int (0 : Int32)), (0, .ref X.1.1)]) hx hb dX4_wordHere_7 rfl hl (by decide) rfl (fun ls hl => ?_)
  obtain ⟨w4, hL5, hq6⟩ := wt_bd_o hd
  have hX7 : ∀ w4_ : Int32 × Int32, w4_ = w4 → ∀ (H : Heap) (locs : List Loc) (ls : Array Slot), mW X w1 H → va_S (mA lo hi) s_.heap H locs → lv_has ls 3 [(1, .int w4_.1), (2, .int w4_.2)] → W p_ l e_ (headSpec (ws_ yX4_wordHere cX4_wordHere 3 (some .int)) ({ frames := 2, cells := 0, slots := 0, locals := 41 })).room s_ m_ ([.ref X.1.1] : List Value).toArray below_ meth_ c_ H locs 0 0 (MQ below_ (mQi X out_.1 out_.2 (mA lo hi)) ([.ref X.1.1] : List Value).toArray s_ 0 0 (mA lo hi)) (F0 m_ 75 ls []) := by
    intro w4_ hw_
    have hd := hq6
    subst hw_
    clear hL5 hq6
    intro H locs ls hW hS hl
    refine lv_iload_n (pc := 75) hx hb dX4_wordHere_75 rfl (lv_at hl 1 rfl) ?_
    refine lv_bipush (pc := 76) (v := 6) hx hb dX4_wordHere_76 (by decide) ?_
    refine lv_icmp_le (pc := 78) (tgt := 85) hx hb dX4_wordHere_78 (by decide) (fun c25 => ?_) (fun c25 => ?_)
    · have hd := wt_it hd c25
      refine lv_iload_n (pc := 85) hx hb dX4_wordHere_85 rfl (lv_at hl 0 rfl) ?_
      exact mr_iret hx hb hr rfl hlocks (wt_p1 hd) (wt_p2 hd) hW hK hS dX4_wordHere_86
    · have hd := wt_if hd c25
      refine lv_iconst (pc := 81) (v := -1) hx hb dX4_wordHere_81 (by decide) ?_
      refine lv_goto (pc := 82) (tgt := 86) hx hb dX4_wordHere_82 (by decide) ?_
      exact mr_iret hx hb hr rfl hlocks (wt_p1 hd) (wt_p2 hd) hW hK hS dX4_wordHere_86
  have hI12 : ∀ (k11 : Nat) (v3 : Int32 × Int32), wt_wh (bX4_wordHere_1 w1) k11 v3 = some w4 → ∀ (H : Heap) (locs : List Loc) (ls : Array Slot), mW X w1 H → va_S (mA lo hi) s_.heap H locs → lv_has ls 3 [(0, .ref X.1.1), (1, .int v3.1), (2, .int v3.2)] → W p_ l e_ (headSpec (ws_ yX4_wordHere cX4_wordHere 3 (some .int)) ({ frames := 2, cells := 0, slots := 0, locals := 41 })).room s_ m_ ([.ref X.1.1] : List Value).toArray below_ meth_ c_ H locs 0 0 (MQ below_ (mQi X out_.1 out_.2 (mA lo hi)) ([.ref X.1.1] : List Value).toArray s_ 0 0 (mA lo hi)) (F0 m_ 8 ls []) := by
    intro k11
    induction k11 with
    | zero => intro v3 hd; exact absurd hd wt_wh_z
    | succ k11 ih9 =>
      intro v3 hd
      intro H locs ls hW hS hl
      obtain ⟨r10, hd, hk8⟩ := wt_wh_o hd
      unfold bX4_wordHere_1 at hd
      refine lv_aload_n (pc := 8) hx hb dX4_wordHere_8 rfl (lv_at hl 0 rfl) ?_
      refine lv_aload_n (pc := 9) hx hb dX4_wordHere_9 rfl (lv_at hl 0 rfl) ?_
      refine mr_get (pc := 10) (k := 4) (v := .int ((w1.1 4))) hx hb hts hown hK hW (by decide) rfl q1533 dX4_wordHere_10 ?_
      refine lv_iload_n (pc := 13) hx hb dX4_wordHere_13 rfl (lv_at hl 2 rfl) ?_
      refine lv_iadd (pc := 14) hx hb dX4_wordHere_14 ?_
      obtain ⟨w13, hc14, hd⟩ := wt_bd_o hd
      refine kX4_byteAt (pc := 15) hx hb hml hown hts hK hJ hW hS hc14 hl.1 (Nat.le_of_ble_eq_true rfl) ⟨Nat.le_of_ble_eq_true rfl, Nat.le_of_ble_eq_true rfl⟩ ⟨Nat.le_refl _, Nat.le_refl _⟩ dX4_wordHere_15 (fun H locs hW hS => ?_)
      refine lv_bipush (pc := 18) (v := 97) hx hb dX4_wordHere_18 (by decide) ?_
      refine lv_icmp_lt (pc := 20) (tgt := 75) hx hb dX4_wordHere_20 (by decide) (fun c15 => ?_) (fun c15 => ?_)
      · have hd := wt_it hd c15
        exact hX7 (v3.1, v3.2) (wt_exit hd hk8) _ _ _ hW hS (lv_sub hl [1, 2] rfl)
      · have hd := wt_if hd c15
        refine lv_aload_n (pc := 23) hx hb dX4_wordHere_23 rfl (lv_at hl 0 rfl) ?_
        refine lv_aload_n (pc := 24) hx hb dX4_wordHere_24 rfl (lv_at hl 0 rfl) ?_
        refine mr_get (pc := 25) (k := 4) (v := .int ((w1.1 4))) hx hb hts hown hK hW (by decide) rfl q1533 dX4_wordHere_25 ?_
        refine lv_iload_n (pc := 28) hx hb dX4_wordHere_28 rfl (lv_at hl 2 rfl) ?_
        refine lv_iadd (pc := 29) hx hb dX4_wordHere_29 ?_
        obtain ⟨w16, hc17, hd⟩ := wt_bd_o hd
        refine kX4_byteAt (pc := 30) hx hb hml hown hts hK hJ hW hS hc17 hl.1 (Nat.le_of_ble_eq_true rfl) ⟨Nat.le_of_ble_eq_true rfl, Nat.le_of_ble_eq_true rfl⟩ ⟨Nat.le_refl _, Nat.le_refl _⟩ dX4_wordHere_30 (fun H locs hW hS => ?_)
        refine lv_bipush (pc := 33) (v := 122) hx hb dX4_wordHere_33 (by decide) ?_
        refine lv_icmp_gt (pc := 35) (tgt := 75) hx hb dX4_wordHere_35 (by decide) (fun c18 => ?_) (fun c18 => ?_)
        · have hd := wt_it hd c18
          exact hX7 (v3.1, v3.2) (wt_exit hd hk8) _ _ _ hW hS (lv_sub hl [1, 2] rfl)
        · have hd := wt_if hd c18
          refine lv_iload_n (pc := 38) hx hb dX4_wordHere_38 rfl (lv_at hl 2 rfl) ?_
          refine lv_bipush (pc := 39) (v := 6) hx hb dX4_wordHere_39 (by decide) ?_
          refine lv_icmp_ge (pc := 41) (tgt := 67) hx hb dX4_wordHere_41 (by decide) (fun c19 => ?_) (fun c19 => ?_)
          · have hd := wt_it hd c19
            refine lv_iload_n (pc := 67) hx hb dX4_wordHere_67 rfl (lv_at hl 1 rfl) ?_
            refine lv_istore_n (pc := 68) (lv' := [(1, .int v3.1), (0, .ref X.1.1), (2, .int v3.2)]) hx hb dX4_wordHere_68 rfl hl (by decide) rfl (fun ls hl => ?_)
            obtain ⟨n20, en20, hd⟩ := wt_lt_o hd
            refine lv_iinc (pc := 69) (k := 2) (v := n20) (lv' := [(2, .int n20), (1, .int v3.1), (0, .ref X.1.1)]) hx hb dX4_wordHere_69 hl rfl en20.symm (by decide) rfl (fun ls hl => ?_)
            refine lv_goto (pc := 72) (tgt := 8) hx hb dX4_wordHere_72 (by decide) ?_
            exact ih9 _ (wt_again hd hk8) _ _ _ hW hS (lv_sub hl [2, 1, 0] rfl)
          · have hd := wt_if hd c19
            refine lv_bipush (pc := 44) (v := 27) hx hb dX4_wordHere_44 (by decide) ?_
            refine lv_iload_n (pc := 46) hx hb dX4_wordHere_46 rfl (lv_at hl 1 rfl) ?_
            refine lv_imul (pc := 47) hx hb dX4_wordHere_47 ?_
            refine lv_aload_n (pc := 48) hx hb dX4_wordHere_48 rfl (lv_at hl 0 rfl) ?_
            refine lv_aload_n (pc := 49) hx hb dX4_wordHere_49 rfl (lv_at hl 0 rfl) ?_
            refine mr_get (pc := 50) (k := 4) (v := .int ((w1.1 4))) hx hb hts hown hK hW (by decide) rfl q1533 dX4_wordHere_50 ?_
            refine lv_iload_n (pc := 53) hx hb dX4_wordHere_53 rfl (lv_at hl 2 rfl) ?_
            refine lv_iadd (pc := 54) hx hb dX4_wordHere_54 ?_
            obtain ⟨w21, hc22, hd⟩ := wt_bd_o hd
            refine kX4_byteAt (pc := 55) hx hb hml hown hts hK hJ hW hS hc22 hl.1 (Nat.le_of_ble_eq_true rfl) ⟨Nat.le_of_ble_eq_true rfl, Nat.le_of_ble_eq_true rfl⟩ ⟨Nat.le_refl _, Nat.le_refl _⟩ dX4_wordHere_55 (fun H locs hW hS => ?_)
            refine lv_iadd (pc := 58) hx hb dX4_wordHere_58 ?_
            refine lv_bipush (pc := 59) (v := 97) hx hb dX4_wordHere_59 (by decide) ?_
            refine lv_isub (pc := 61) hx hb dX4_wordHere_61 ?_
            refine lv_iconst (pc := 62) (v := 1) hx hb dX4_wordHere_62 (by decide) ?_
            refine lv_iadd (pc := 63) hx hb dX4_wordHere_63 ?_
            refine lv_goto (pc := 64) (tgt := 68) hx hb dX4_wordHere_64 (by decide) ?_
            obtain ⟨n23, en23, hd⟩ := wt_lt_o hd
            refine lv_tope en23 ?_
            refine lv_istore_n (pc := 68) (lv' := [(1, .int n23), (0, .ref X.1.1), (2, .int v3.2)]) hx hb dX4_wordHere_68 rfl hl (by decide) rfl (fun ls hl => ?_)
            obtain ⟨n24, en24, hd⟩ := wt_lt_o hd
            refine lv_iinc (pc := 69) (k := 2) (v := n24) (lv' := [(2, .int n24), (1, .int n23), (0, .ref X.1.1)]) hx hb dX4_wordHere_69 hl rfl en24.symm (by decide) rfl (fun ls hl => ?_)
            refine lv_goto (pc := 72) (tgt := 8) hx hb dX4_wordHere_72 (by decide) ?_
            exact ih9 _ (wt_again hd hk8) _ _ _ hW hS (lv_sub hl [2, 1, 0] rfl)
  obtain ⟨k11, hL5⟩ := wt_whC_o hL5
  exact hI12 k11 _ hL5 _ _ _ hW hS (lv_sub hl [2, 1, 0] rfl)
theorem kX4_wordHere {p : Program} {l : Launch} {e : Env} {R : Room} {s : State} {m : MethodId} {args : Array Value} {below : List Frame} {meth : Method} {c : Code} {H : Heap} {locs : List Loc} {cells slots : Nat} {Q : State → Prop} {cc : ByteArray} {pc : Nat} {ls : Array Slot} {rest : List Value} {H0 : Heap} {nL : Nat} {X : MPar} {lo hi : Nat} {σ : MSt}  {out_ : Int32 × MSt} (hx : p.tables.exec = Jvm.exec) (hb : c.code = cc) (hml : c.maxLocals = nL) (hown : s.vm.findClass RX4 = some m.cls) (hts : ∀ w ∈ lw_all, w.before args s = true) (hK : mK X s) (hJ : mJ X lo hi) (hW : mW X σ H) (hS : va_S (mA lo hi) H0 H locs) (hd : dX4_wordHere σ = some out_) (hsz : ls.size = nL) (hrm : (rest.map fun v => v.category).sum ≤ 8) (hR : 3 ≤ R.frames ∧ 63 ≤ R.locals) (hcs : cells ≤ R.cells ∧ slots ≤ R.slots) (hdg : decode cc pc = .ok (.invokevirtual 132, 3)) (kk : ∀ (H1 : Heap) (locs1 : List Loc), mW X out_.2 H1 → va_S (mA lo hi) H0 H1 locs1 → W p l e R s m args below meth c H1 locs1 cells slots Q (F0 m (pc + 3) ls (.int out_.1 :: rest))) : W p l e R s m args below meth c H locs cells slots Q (F0 m pc ls (.ref X.1.1 :: rest)) := by
  refine va_calli (va_runV (As := []) (rest := rest) ⟨hx, hb, hml, hown, hts⟩ (wX4_wordHere l hJ hd) (cwV 0 hts (lw_V q1723 q1725 qs32 q88 q1726) rfl rfl rfl (by decide +kernel) hR) (mr_pre hK hW) rfl rfl hsz rfl (lv_room hrm) hdg hcs) hS (fun _ _ h => h) (fun _ h => h) (fun r u t H1 locs1 ht hvm hp hB hz hk hS1 => ?_)
  have hp : r = out_.1 := hp
  subst hp
  have hW1 : mW X out_.2 t.heap := hB.1
  rw [ht] at hW1
  exact kk H1 locs1 hW1 hS1
noncomputable def dX4_word (a0 : Int32) (a1 : Int32) (a2 : Int32) (a3 : Int32) (a4 : Int32) (a5 : Int32) : Option (Int32) :=
  wt_lt ((((27 : Int32) * a0) + a1)) fun n1 => wt_bd (if a2 = 0 then (some (n1)) else (some (((27 : Int32) * n1) + a2))) fun w2 => wt_bd (if a3 = 0 then (some (w2)) else (some (((27 : Int32) * w2) + a3))) fun w7 => wt_bd (if a4 = 0 then (some (w7)) else (some (((27 : Int32) * w7) + a4))) fun w12 => if a5 = 0 then (some w12) else (some (((27 : Int32) * w12) + a5))
set_option maxHeartbeats 4000000 in
theorem wX4_word (l : Launch) {a0 : Int32} {a1 : Int32} {a2 : Int32} {a3 : Int32} {a4 : Int32} {a5 : Int32} {out_ : Int32} (hd : dX4_word a0 a1 a2 a3 a4 a5 = some out_) : Met l yX4_word (ws_ yX4_word cX4_word 7 (some .int)) ({ frames := 0, cells := 0, slots := 0, locals := 0 }) (va_Pc [.int a0, .int a1, .int a2, .int a3, .int a4, .int a5] (fun _ => True)) (msQi out_) 0 0 (fun _ => False) := by
  refine Met.ofW (cc := cX4_word) (maxL := 7) (ret := (some .int)) (by decide) rfl ?_
  intro p_ e_ s_ m_ args_ below_ meth_ c_ s₁_ B hml hv
  obtain ⟨rfl, -⟩ := hv
  have hx := B.exec
  have hb := B.bytes
  have hr := B.returns
  have hts := atoms_spec (ws := (ws_ yX4_word cX4_word 7 (some .int))) B.pre
  have hts : ∀ w ∈ lw_all, w.before _ s_ = true := fun w h => hts w (List.mem_cons_of_mem _ h)
  have hown : s_.vm.findClass RX4 = some m_.cls := findClass_of_methodNamed B.named
  have hlocks := B.notSynchronized
  have hS : va_S (fun _ => False) s_.heap s_.heap [] := va_S.rf
  have hl := lv_entry ([.int a0, .int a1, .int a2, .int a3, .int a4, .int a5]) (n := 7) (Nat.le_of_ble_eq_true rfl)
  rw [lg_entry_eq]
  generalize (lg_sl ([.int a0, .int a1, .int a2, .int a3, .int a4, .int a5]) ++ List.replicate (7 - (lg_sl ([.int a0, .int a1, .int a2, .int a3, .int a4, .int a5])).length) Slot.unset).toArray = ls at hl ⊢
  have hl : lv_has ls 7 [(0, .int a0), (1, .int a1), (2, .int a2), (3, .int a3), (4, .int a4), (5, .int a5)] := hl
  unfold dX4_word at hd
  refine lv_bipush (pc := 0) (v := 27) hx hb dX4_word_0 (by decide) ?_
  refine lv_iload_n (pc := 2) hx hb dX4_word_2 rfl (lv_at hl 0 rfl) ?_
  refine lv_imul (pc := 3) hx hb dX4_word_3 ?_
  refine lv_iload_n (pc := 4) hx hb dX4_word_4 rfl (lv_at hl 1 rfl) ?_
  refine lv_iadd (pc := 5) hx hb dX4_word_5 ?_
  obtain ⟨n1, en1, hd⟩ := wt_lt_o hd
  refine lv_tope en1 ?_
  refine lv_istore (pc := 6) (lv' := [(6, .int n1), (0, .int a0), (1, .int a1), (2, .int a2), (3, .int a3), (4, .int a4), (5, .int a5)]) hx hb dX4_word_6 hl (by decide) rfl (fun ls hl => ?_)
  refine lv_iload_n (pc := 8) hx hb dX4_word_8 rfl (lv_at hl 3 rfl) ?_
  obtain ⟨w2, hj3, hq4⟩ := wt_bd_o hd
  have hX5 : ∀ w2_ : Int32, w2_ = w2 → ∀ (H : Heap) (locs : List Loc) (ls : Array Slot), va_S (fun _ => False) s_.heap H locs → lv_has ls 7 [(3, .int a3), (4, .int a4), (5, .int a5)] → W p_ l e_ (headSpec (ws_ yX4_word cX4_word 7 (some .int)) ({ frames := 0, cells := 0, slots := 0, locals := 0 })).room s_ m_ ([.int a0, .int a1, .int a2, .int a3, .int a4, .int a5] : List Value).toArray below_ meth_ c_ H locs 0 0 (MQ below_ (msQi out_) ([.int a0, .int a1, .int a2, .int a3, .int a4, .int a5] : List Value).toArray s_ 0 0 (fun _ => False)) (F0 m_ 24 ls [.int w2_]) := by
    intro w2_ hw_
    have hd := hq4
    subst hw_
    clear hj3 hq4
    intro H locs ls hS hl
    refine lv_istore (pc := 24) (lv' := [(6, .int w2_), (3, .int a3), (4, .int a4), (5, .int a5)]) hx hb dX4_word_24 hl (by decide) rfl (fun ls hl => ?_)
    refine lv_iload_n (pc := 26) hx hb dX4_word_26 rfl (lv_at hl 1 rfl) ?_
    obtain ⟨w7, hj8, hq9⟩ := wt_bd_o hd
    have hX10 : ∀ w7_ : Int32, w7_ = w7 → ∀ (H : Heap) (locs : List Loc) (ls : Array Slot), va_S (fun _ => False) s_.heap H locs → lv_has ls 7 [(4, .int a4), (5, .int a5)] → W p_ l e_ (headSpec (ws_ yX4_word cX4_word 7 (some .int)) ({ frames := 0, cells := 0, slots := 0, locals := 0 })).room s_ m_ ([.int a0, .int a1, .int a2, .int a3, .int a4, .int a5] : List Value).toArray below_ meth_ c_ H locs 0 0 (MQ below_ (msQi out_) ([.int a0, .int a1, .int a2, .int a3, .int a4, .int a5] : List Value).toArray s_ 0 0 (fun _ => False)) (F0 m_ 42 ls [.int w7_]) := by
      intro w7_ hw_
      have hd := hq9
      subst hw_
      clear hj8 hq9
      intro H locs ls hS hl
      refine lv_istore (pc := 42) (lv' := [(6, .int w7_), (4, .int a4), (5, .int a5)]) hx hb dX4_word_42 hl (by decide) rfl (fun ls hl => ?_)
      refine lv_iload (pc := 44) hx hb dX4_word_44 (lv_at hl 1 rfl) ?_
      obtain ⟨w12, hj13, hq14⟩ := wt_bd_o hd
      have hX15 : ∀ w12_ : Int32, w12_ = w12 → ∀ (H : Heap) (locs : List Loc) (ls : Array Slot), va_S (fun _ => False) s_.heap H locs → lv_has ls 7 [(5, .int a5)] → W p_ l e_ (headSpec (ws_ yX4_word cX4_word 7 (some .int)) ({ frames := 0, cells := 0, slots := 0, locals := 0 })).room s_ m_ ([.int a0, .int a1, .int a2, .int a3, .int a4, .int a5] : List Value).toArray below_ meth_ c_ H locs 0 0 (MQ below_ (msQi out_) ([.int a0, .int a1, .int a2, .int a3, .int a4, .int a5] : List Value).toArray s_ 0 0 (fun _ => False)) (F0 m_ 62 ls [.int w12_]) := by
        intro w12_ hw_
        have hd := hq14
        subst hw_
        clear hj13 hq14
        intro H locs ls hS hl
        refine lv_istore (pc := 62) (lv' := [(6, .int w12_), (5, .int a5)]) hx hb dX4_word_62 hl (by decide) rfl (fun ls hl => ?_)
        refine lv_iload (pc := 64) hx hb dX4_word_64 (lv_at hl 1 rfl) ?_
        refine lv_if_ne (pc := 66) (tgt := 74) hx hb dX4_word_66 (by decide) (fun c17 => ?_) (fun c17 => ?_)
        · have hd := wt_if hd c17
          refine lv_bipush (pc := 74) (v := 27) hx hb dX4_word_74 (by decide) ?_
          refine lv_iload (pc := 76) hx hb dX4_word_76 (lv_at hl 0 rfl) ?_
          refine lv_imul (pc := 78) hx hb dX4_word_78 ?_
          refine lv_iload (pc := 79) hx hb dX4_word_79 (lv_at hl 1 rfl) ?_
          refine lv_iadd (pc := 81) hx hb dX4_word_81 ?_
          exact ms_iret hx hb hr rfl hlocks (Option.some.inj hd) hS dX4_word_82
        · have hd := wt_it hd c17
          refine lv_iload (pc := 69) hx hb dX4_word_69 (lv_at hl 0 rfl) ?_
          refine lv_goto (pc := 71) (tgt := 82) hx hb dX4_word_71 (by decide) ?_
          exact ms_iret hx hb hr rfl hlocks (Option.some.inj hd) hS dX4_word_82
      have hd := hj13
      refine lv_if_ne (pc := 46) (tgt := 54) hx hb dX4_word_46 (by decide) (fun c16 => ?_) (fun c16 => ?_)
      · have hd := wt_if hd c16
        refine lv_bipush (pc := 54) (v := 27) hx hb dX4_word_54 (by decide) ?_
        refine lv_iload (pc := 56) hx hb dX4_word_56 (lv_at hl 0 rfl) ?_
        refine lv_imul (pc := 58) hx hb dX4_word_58 ?_
        refine lv_iload (pc := 59) hx hb dX4_word_59 (lv_at hl 1 rfl) ?_
        refine lv_iadd (pc := 61) hx hb dX4_word_61 ?_
        exact hX15 (((27 : Int32) * w7_) + a4) (Option.some.inj hd) _ _ _ hS (lv_sub hl [2] rfl)
      · have hd := wt_it hd c16
        refine lv_iload (pc := 49) hx hb dX4_word_49 (lv_at hl 0 rfl) ?_
        refine lv_goto (pc := 51) (tgt := 62) hx hb dX4_word_51 (by decide) ?_
        exact hX15 w7_ (Option.some.inj hd) _ _ _ hS (lv_sub hl [2] rfl)
    have hd := hj8
    refine lv_if_ne (pc := 27) (tgt := 35) hx hb dX4_word_27 (by decide) (fun c11 => ?_) (fun c11 => ?_)
    · have hd := wt_if hd c11
      refine lv_bipush (pc := 35) (v := 27) hx hb dX4_word_35 (by decide) ?_
      refine lv_iload (pc := 37) hx hb dX4_word_37 (lv_at hl 0 rfl) ?_
      refine lv_imul (pc := 39) hx hb dX4_word_39 ?_
      refine lv_iload_n (pc := 40) hx hb dX4_word_40 rfl (lv_at hl 1 rfl) ?_
      refine lv_iadd (pc := 41) hx hb dX4_word_41 ?_
      exact hX10 (((27 : Int32) * w2_) + a3) (Option.some.inj hd) _ _ _ hS (lv_sub hl [2, 3] rfl)
    · have hd := wt_it hd c11
      refine lv_iload (pc := 30) hx hb dX4_word_30 (lv_at hl 0 rfl) ?_
      refine lv_goto (pc := 32) (tgt := 42) hx hb dX4_word_32 (by decide) ?_
      exact hX10 w2_ (Option.some.inj hd) _ _ _ hS (lv_sub hl [2, 3] rfl)
  have hd := hj3
  refine lv_if_ne (pc := 9) (tgt := 17) hx hb dX4_word_9 (by decide) (fun c6 => ?_) (fun c6 => ?_)
  · have hd := wt_if hd c6
    refine lv_bipush (pc := 17) (v := 27) hx hb dX4_word_17 (by decide) ?_
    refine lv_iload (pc := 19) hx hb dX4_word_19 (lv_at hl 0 rfl) ?_
    refine lv_imul (pc := 21) hx hb dX4_word_21 ?_
    refine lv_iload_n (pc := 22) hx hb dX4_word_22 rfl (lv_at hl 3 rfl) ?_
    refine lv_iadd (pc := 23) hx hb dX4_word_23 ?_
    exact hX5 (((27 : Int32) * n1) + a2) (Option.some.inj hd) _ _ _ hS (lv_sub hl [4, 5, 6] rfl)
  · have hd := wt_it hd c6
    refine lv_iload (pc := 12) hx hb dX4_word_12 (lv_at hl 0 rfl) ?_
    refine lv_goto (pc := 14) (tgt := 24) hx hb dX4_word_14 (by decide) ?_
    exact hX5 n1 (Option.some.inj hd) _ _ _ hS (lv_sub hl [4, 5, 6] rfl)
theorem kX4_word {p : Program} {l : Launch} {e : Env} {R : Room} {s : State} {m : MethodId} {args : Array Value} {below : List Frame} {meth : Method} {c : Code} {H : Heap} {locs : List Loc} {cells slots : Nat} {Q : State → Prop} {cc : ByteArray} {pc : Nat} {ls : Array Slot} {rest : List Value} {H0 : Heap} {nL : Nat} {X : MPar} {σ : MSt} {A : Nat → Prop} {a0 : Int32} {a1 : Int32} {a2 : Int32} {a3 : Int32} {a4 : Int32} {a5 : Int32} {out_ : Int32} (hx : p.tables.exec = Jvm.exec) (hb : c.code = cc) (hml : c.maxLocals = nL) (hown : s.vm.findClass RX4 = some m.cls) (hts : ∀ w ∈ lw_all, w.before args s = true) (hK : mK X s) (hW : mW X σ H) (hS : va_S A H0 H locs) (hd : dX4_word a0 a1 a2 a3 a4 a5 = some out_) (hsz : ls.size = nL) (hrm : (rest.map fun v => v.category).sum ≤ 8) (hR : 1 ≤ R.frames ∧ 26 ≤ R.locals) (hcs : cells ≤ R.cells ∧ slots ≤ R.slots) (hdg : decode cc pc = .ok (.invokestatic 136, 3)) (kk : ∀ (H1 : Heap) (locs1 : List Loc), mW X σ H1 → va_S A H0 H1 locs1 → W p l e R s m args below meth c H1 locs1 cells slots Q (F0 m (pc + 3) ls (.int out_ :: rest))) : W p l e R s m args below meth c H locs cells slots Q (F0 m pc ls (.int a5 :: .int a4 :: .int a3 :: .int a2 :: .int a1 :: .int a0 :: rest)) := by
  refine va_calli (va_runS (As := [.int a0, .int a1, .int a2, .int a3, .int a4, .int a5]) (rest := rest) ⟨hx, hb, hml, hown, hts⟩ (wX4_word l hd) (va_cwS 6 hts (lw_S q1727 q1728 q88 q1729) rfl rfl rfl (by decide +kernel) hR) ms_pre rfl rfl hsz rfl (lv_room hrm) hdg hcs) hS (fun _ _ h => h.elim) (fun _ h => h.elim) (fun r u t H1 locs1 ht hvm hp hB hz hk hS1 => ?_)
  have hp : r = out_ := hp
  subst hp
  exact kk H1 locs1 (hW.kept fun q hq => hk q hq (fun h => h)) hS1
noncomputable def dX4_isWord (σ : MSt) (a0 : Int32) (a1 : Int32) (a2 : Int32) (a3 : Int32) (a4 : Int32) (a5 : Int32) : Option (Int32 × MSt) :=
  wt_bd (dX4_wordHere σ) fun w1 => wt_bd (dX4_word a0 a1 a2 a3 a4 a5) fun w3 => if w1.1 = w3 then (some ((1 : Int32), w1.2)) else (some ((0 : Int32), w1.2))
set_option maxHeartbeats 4000000 in
theorem wX4_isWord (l : Launch) {X : MPar} {lo hi : Nat} (hJ : mJ X lo hi) {σ : MSt} {a0 : Int32} {a1 : Int32} {a2 : Int32} {a3 : Int32} {a4 : Int32} {a5 : Int32} {out_ : Int32 × MSt} (hd : dX4_isWord σ a0 a1 a2 a3 a4 a5 = some out_) : Met l yX4_isWord (ws_ yX4_isWord cX4_isWord 7 (some .boolean)) ({ frames := 3, cells := 0, slots := 0, locals := 63 }) (mP X σ [.ref X.1.1, .int a0, .int a1, .int a2, .int a3, .int a4, .int a5]) (mQi X out_.1 out_.2 (mA lo hi)) 0 0 (mA lo hi) := by
  refine Met.ofW (cc := cX4_isWord) (maxL := 7) (ret := (some .boolean)) (by decide) rfl ?_
  intro p_ e_ s_ m_ args_ below_ meth_ c_ s₁_ B hml hv
  obtain ⟨rfl, hW, hK⟩ := hv
  have hx := B.exec
  have hb := B.bytes
  have hr := B.returns
  have hts := atoms_spec (ws := (ws_ yX4_isWord cX4_isWord 7 (some .boolean))) B.pre
  have hts : ∀ w ∈ lw_all, w.before _ s_ = true := fun w h => hts w (List.mem_cons_of_mem _ h)
  have hown : s_.vm.findClass RX4 = some m_.cls := findClass_of_methodNamed B.named
  have hlocks := B.notSynchronized
  have hS : va_S (mA lo hi) s_.heap s_.heap [] := va_S.rf
  have hl := lv_entry ([.ref X.1.1, .int a0, .int a1, .int a2, .int a3, .int a4, .int a5]) (n := 7) (Nat.le_of_ble_eq_true rfl)
  rw [lg_entry_eq]
  generalize (lg_sl ([.ref X.1.1, .int a0, .int a1, .int a2, .int a3, .int a4, .int a5]) ++ List.replicate (7 - (lg_sl ([.ref X.1.1, .int a0, .int a1, .int a2, .int a3, .int a4, .int a5])).length) Slot.unset).toArray = ls at hl ⊢
  have hl : lv_has ls 7 [(0, .ref X.1.1), (1, .int a0), (2, .int a1), (3, .int a2), (4, .int a3), (5, .int a4), (6, .int a5)] := hl
  unfold dX4_isWord at hd
  refine lv_aload_n (pc := 0) hx hb dX4_isWord_0 rfl (lv_at hl 0 rfl) ?_
  obtain ⟨w1, hc2, hd⟩ := wt_bd_o hd
  refine kX4_wordHere (pc := 1) hx hb hml hown hts hK hJ hW hS hc2 hl.1 (Nat.le_of_ble_eq_true rfl) ⟨Nat.le_of_ble_eq_true rfl, Nat.le_of_ble_eq_true rfl⟩ ⟨Nat.le_refl _, Nat.le_refl _⟩ dX4_isWord_1 (fun H locs hW hS => ?_)
  refine lv_iload_n (pc := 4) hx hb dX4_isWord_4 rfl (lv_at hl 1 rfl) ?_
  refine lv_iload_n (pc := 5) hx hb dX4_isWord_5 rfl (lv_at hl 2 rfl) ?_
  refine lv_iload_n (pc := 6) hx hb dX4_isWord_6 rfl (lv_at hl 3 rfl) ?_
  refine lv_iload (pc := 7) hx hb dX4_isWord_7 (lv_at hl 4 rfl) ?_
  refine lv_iload (pc := 9) hx hb dX4_isWord_9 (lv_at hl 5 rfl) ?_
  refine lv_iload (pc := 11) hx hb dX4_isWord_11 (lv_at hl 6 rfl) ?_
  obtain ⟨w3, hc4, hd⟩ := wt_bd_o hd
  refine kX4_word (pc := 13) hx hb hml hown hts hK hW hS hc4 hl.1 (Nat.le_of_ble_eq_true rfl) ⟨Nat.le_of_ble_eq_true rfl, Nat.le_of_ble_eq_true rfl⟩ ⟨Nat.le_refl _, Nat.le_refl _⟩ dX4_isWord_13 (fun H locs hW hS => ?_)
  refine lv_icmp_ne (pc := 16) (tgt := 23) hx hb dX4_isWord_16 (by decide) (fun c5 => ?_) (fun c5 => ?_)
  · have hd := wt_if hd c5
    refine lv_iconst (pc := 23) (v := 0) hx hb dX4_isWord_23 (by decide) ?_
    exact mr_iret hx hb hr rfl hlocks (wt_p1 hd) (wt_p2 hd) hW hK hS dX4_isWord_24
  · have hd := wt_it hd c5
    refine lv_iconst (pc := 19) (v := 1) hx hb dX4_isWord_19 (by decide) ?_
    refine lv_goto (pc := 20) (tgt := 24) hx hb dX4_isWord_20 (by decide) ?_
    exact mr_iret hx hb hr rfl hlocks (wt_p1 hd) (wt_p2 hd) hW hK hS dX4_isWord_24
theorem kX4_isWord {p : Program} {l : Launch} {e : Env} {R : Room} {s : State} {m : MethodId} {args : Array Value} {below : List Frame} {meth : Method} {c : Code} {H : Heap} {locs : List Loc} {cells slots : Nat} {Q : State → Prop} {cc : ByteArray} {pc : Nat} {ls : Array Slot} {rest : List Value} {H0 : Heap} {nL : Nat} {X : MPar} {lo hi : Nat} {σ : MSt} {a0 : Int32} {a1 : Int32} {a2 : Int32} {a3 : Int32} {a4 : Int32} {a5 : Int32} {out_ : Int32 × MSt} (hx : p.tables.exec = Jvm.exec) (hb : c.code = cc) (hml : c.maxLocals = nL) (hown : s.vm.findClass RX4 = some m.cls) (hts : ∀ w ∈ lw_all, w.before args s = true) (hK : mK X s) (hJ : mJ X lo hi) (hW : mW X σ H) (hS : va_S (mA lo hi) H0 H locs) (hd : dX4_isWord σ a0 a1 a2 a3 a4 a5 = some out_) (hsz : ls.size = nL) (hrm : (rest.map fun v => v.category).sum ≤ 8) (hR : 4 ≤ R.frames ∧ 89 ≤ R.locals) (hcs : cells ≤ R.cells ∧ slots ≤ R.slots) (hdg : decode cc pc = .ok (.invokevirtual 140, 3)) (kk : ∀ (H1 : Heap) (locs1 : List Loc), mW X out_.2 H1 → va_S (mA lo hi) H0 H1 locs1 → W p l e R s m args below meth c H1 locs1 cells slots Q (F0 m (pc + 3) ls (.int out_.1 :: rest))) : W p l e R s m args below meth c H locs cells slots Q (F0 m pc ls (.int a5 :: .int a4 :: .int a3 :: .int a2 :: .int a1 :: .int a0 :: .ref X.1.1 :: rest)) := by
  refine va_calli (va_runV (As := [.int a0, .int a1, .int a2, .int a3, .int a4, .int a5]) (rest := rest) ⟨hx, hb, hml, hown, hts⟩ (wX4_isWord l hJ hd) (cwV 6 hts (lw_V q1719 q1721 qs31 q88 q1722) rfl rfl rfl (by decide +kernel) hR) (mr_pre hK hW) rfl rfl hsz rfl (lv_room hrm) hdg hcs) hS (fun _ _ h => h) (fun _ h => h) (fun r u t H1 locs1 ht hvm hp hB hz hk hS1 => ?_)
  have hp : r = out_.1 := hp
  subst hp
  have hW1 : mW X out_.2 t.heap := hB.1
  rw [ht] at hW1
  exact kk H1 locs1 hW1 hS1
noncomputable def dX4_clauseHere (σ : MSt)  : Option (Int32 × MSt) :=
  wt_bd (dX4_isWord σ (19 : Int32) (8 : Int32) (5 : Int32) (4 : Int32) (0 : Int32) (0 : Int32)) fun w1 => if w1.1 = 0 then (wt_bd (dX4_isWord w1.2 (8 : Int32) (15 : Int32) (12 : Int32) (4 : Int32) (0 : Int32) (0 : Int32)) fun w4 => if w4.1 = 0 then (wt_bd (dX4_isWord w4.2 (23 : Int32) (1 : Int32) (19 : Int32) (8 : Int32) (0 : Int32) (0 : Int32)) fun w7 => if w7.1 = 0 then (wt_bd (dX4_isWord w7.2 (16 : Int32) (1 : Int32) (19 : Int32) (19 : Int32) (0 : Int32) (0 : Int32)) fun w10 => if w10.1 = 0 then (wt_bd (dX4_isWord w10.2 (20 : Int32) (1 : Int32) (11 : Int32) (5 : Int32) (0 : Int32) (0 : Int32)) fun w13 => if w13.1 = 0 then (wt_bd (dX4_isWord w13.2 (1 : Int32) (12 : Int32) (9 : Int32) (11 : Int32) (5 : Int32) (0 : Int32)) fun w16 => if w16.1 = 0 then (wt_bd (dX4_isWord w16.2 (3 : Int32) (15 : Int32) (13 : Int32) (13 : Int32) (15 : Int32) (14 : Int32)) fun w19 => if w19.1 = 0 then (some ((-1 : Int32), w19.2)) else (some ((6 : Int32), w19.2))) else (some ((5 : Int32), w16.2))) else (some ((4 : Int32), w13.2))) else (some ((3 : Int32), w10.2))) else (some ((2 : Int32), w7.2))) else (some ((1 : Int32), w4.2))) else (some ((0 : Int32), w1.2))
set_option maxHeartbeats 4000000 in
theorem wX4_clauseHere (l : Launch) {X : MPar} {lo hi : Nat} (hJ : mJ X lo hi) {σ : MSt}  {out_ : Int32 × MSt} (hd : dX4_clauseHere σ = some out_) : Met l yX4_clauseHere (ws_ yX4_clauseHere cX4_clauseHere 1 (some .int)) ({ frames := 4, cells := 0, slots := 0, locals := 89 }) (mP X σ [.ref X.1.1]) (mQi X out_.1 out_.2 (mA lo hi)) 0 0 (mA lo hi) := by
  refine Met.ofW (cc := cX4_clauseHere) (maxL := 1) (ret := (some .int)) (by decide) rfl ?_
  intro p_ e_ s_ m_ args_ below_ meth_ c_ s₁_ B hml hv
  obtain ⟨rfl, hW, hK⟩ := hv
  have hx := B.exec
  have hb := B.bytes
  have hr := B.returns
  have hts := atoms_spec (ws := (ws_ yX4_clauseHere cX4_clauseHere 1 (some .int))) B.pre
  have hts : ∀ w ∈ lw_all, w.before _ s_ = true := fun w h => hts w (List.mem_cons_of_mem _ h)
  have hown : s_.vm.findClass RX4 = some m_.cls := findClass_of_methodNamed B.named
  have hlocks := B.notSynchronized
  have hS : va_S (mA lo hi) s_.heap s_.heap [] := va_S.rf
  have hl := lv_entry ([.ref X.1.1]) (n := 1) (Nat.le_of_ble_eq_true rfl)
  rw [lg_entry_eq]
  generalize (lg_sl ([.ref X.1.1]) ++ List.replicate (1 - (lg_sl ([.ref X.1.1])).length) Slot.unset).toArray = ls at hl ⊢
  have hl : lv_has ls 1 [(0, .ref X.1.1)] := hl
  unfold dX4_clauseHere at hd
  refine lv_aload_n (pc := 0) hx hb dX4_clauseHere_0 rfl (lv_at hl 0 rfl) ?_
  refine lv_bipush (pc := 1) (v := 19) hx hb dX4_clauseHere_1 (by decide) ?_
  refine lv_bipush (pc := 3) (v := 8) hx hb dX4_clauseHere_3 (by decide) ?_
  refine lv_iconst (pc := 5) (v := 5) hx hb dX4_clauseHere_5 (by decide) ?_
  refine lv_iconst (pc := 6) (v := 4) hx hb dX4_clauseHere_6 (by decide) ?_
  refine lv_iconst (pc := 7) (v := 0) hx hb dX4_clauseHere_7 (by decide) ?_
  refine lv_iconst (pc := 8) (v := 0) hx hb dX4_clauseHere_8 (by decide) ?_
  obtain ⟨w1, hc2, hd⟩ := wt_bd_o hd
  refine kX4_isWord (pc := 9) hx hb hml hown hts hK hJ hW hS hc2 hl.1 (Nat.le_of_ble_eq_true rfl) ⟨Nat.le_of_ble_eq_true rfl, Nat.le_of_ble_eq_true rfl⟩ ⟨Nat.le_refl _, Nat.le_refl _⟩ dX4_clauseHere_9 (fun H locs hW hS => ?_)
  refine lv_if_eq (pc := 12) (tgt := 17) hx hb dX4_clauseHere_12 (by decide) (fun c3 => ?_) (fun c3 => ?_)
  · have hd := wt_it hd c3
    refine lv_aload_n (pc := 17) hx hb dX4_clauseHere_17 rfl (lv_at hl 0 rfl) ?_
    refine lv_bipush (pc := 18) (v := 8) hx hb dX4_clauseHere_18 (by decide) ?_
    refine lv_bipush (pc := 20) (v := 15) hx hb dX4_clauseHere_20 (by decide) ?_
    refine lv_bipush (pc := 22) (v := 12) hx hb dX4_clauseHere_22 (by decide) ?_
    refine lv_iconst (pc := 24) (v := 4) hx hb dX4_clauseHere_24 (by decide) ?_
    refine lv_iconst (pc := 25) (v := 0) hx hb dX4_clauseHere_25 (by decide) ?_
    refine lv_iconst (pc := 26) (v := 0) hx hb dX4_clauseHere_26 (by decide) ?_
    obtain ⟨w4, hc5, hd⟩ := wt_bd_o hd
    refine kX4_isWord (pc := 27) hx hb hml hown hts hK hJ hW hS hc5 hl.1 (Nat.le_of_ble_eq_true rfl) ⟨Nat.le_of_ble_eq_true rfl, Nat.le_of_ble_eq_true rfl⟩ ⟨Nat.le_refl _, Nat.le_refl _⟩ dX4_clauseHere_27 (fun H locs hW hS => ?_)
    refine lv_if_eq (pc := 30) (tgt := 35) hx hb dX4_clauseHere_30 (by decide) (fun c6 => ?_) (fun c6 => ?_)
    · have hd := wt_it hd c6
      refine lv_aload_n (pc := 35) hx hb dX4_clauseHere_35 rfl (lv_at hl 0 rfl) ?_
      refine lv_bipush (pc := 36) (v := 23) hx hb dX4_clauseHere_36 (by decide) ?_
      refine lv_iconst (pc := 38) (v := 1) hx hb dX4_clauseHere_38 (by decide) ?_
      refine lv_bipush (pc := 39) (v := 19) hx hb dX4_clauseHere_39 (by decide) ?_
      refine lv_bipush (pc := 41) (v := 8) hx hb dX4_clauseHere_41 (by decide) ?_
      refine lv_iconst (pc := 43) (v := 0) hx hb dX4_clauseHere_43 (by decide) ?_
      refine lv_iconst (pc := 44) (v := 0) hx hb dX4_clauseHere_44 (by decide) ?_
      obtain ⟨w7, hc8, hd⟩ := wt_bd_o hd
      refine kX4_isWord (pc := 45) hx hb hml hown hts hK hJ hW hS hc8 hl.1 (Nat.le_of_ble_eq_true rfl) ⟨Nat.le_of_ble_eq_true rfl, Nat.le_of_ble_eq_true rfl⟩ ⟨Nat.le_refl _, Nat.le_refl _⟩ dX4_clauseHere_45 (fun H locs hW hS => ?_)
      refine lv_if_eq (pc := 48) (tgt := 53) hx hb dX4_clauseHere_48 (by decide) (fun c9 => ?_) (fun c9 => ?_)
      · have hd := wt_it hd c9
        refine lv_aload_n (pc := 53) hx hb dX4_clauseHere_53 rfl (lv_at hl 0 rfl) ?_
        refine lv_bipush (pc := 54) (v := 16) hx hb dX4_clauseHere_54 (by decide) ?_
        refine lv_iconst (pc := 56) (v := 1) hx hb dX4_clauseHere_56 (by decide) ?_
        refine lv_bipush (pc := 57) (v := 19) hx hb dX4_clauseHere_57 (by decide) ?_
        refine lv_bipush (pc := 59) (v := 19) hx hb dX4_clauseHere_59 (by decide) ?_
        refine lv_iconst (pc := 61) (v := 0) hx hb dX4_clauseHere_61 (by decide) ?_
        refine lv_iconst (pc := 62) (v := 0) hx hb dX4_clauseHere_62 (by decide) ?_
        obtain ⟨w10, hc11, hd⟩ := wt_bd_o hd
        refine kX4_isWord (pc := 63) hx hb hml hown hts hK hJ hW hS hc11 hl.1 (Nat.le_of_ble_eq_true rfl) ⟨Nat.le_of_ble_eq_true rfl, Nat.le_of_ble_eq_true rfl⟩ ⟨Nat.le_refl _, Nat.le_refl _⟩ dX4_clauseHere_63 (fun H locs hW hS => ?_)
        refine lv_if_eq (pc := 66) (tgt := 71) hx hb dX4_clauseHere_66 (by decide) (fun c12 => ?_) (fun c12 => ?_)
        · have hd := wt_it hd c12
          refine lv_aload_n (pc := 71) hx hb dX4_clauseHere_71 rfl (lv_at hl 0 rfl) ?_
          refine lv_bipush (pc := 72) (v := 20) hx hb dX4_clauseHere_72 (by decide) ?_
          refine lv_iconst (pc := 74) (v := 1) hx hb dX4_clauseHere_74 (by decide) ?_
          refine lv_bipush (pc := 75) (v := 11) hx hb dX4_clauseHere_75 (by decide) ?_
          refine lv_iconst (pc := 77) (v := 5) hx hb dX4_clauseHere_77 (by decide) ?_
          refine lv_iconst (pc := 78) (v := 0) hx hb dX4_clauseHere_78 (by decide) ?_
          refine lv_iconst (pc := 79) (v := 0) hx hb dX4_clauseHere_79 (by decide) ?_
          obtain ⟨w13, hc14, hd⟩ := wt_bd_o hd
          refine kX4_isWord (pc := 80) hx hb hml hown hts hK hJ hW hS hc14 hl.1 (Nat.le_of_ble_eq_true rfl) ⟨Nat.le_of_ble_eq_true rfl, Nat.le_of_ble_eq_true rfl⟩ ⟨Nat.le_refl _, Nat.le_refl _⟩ dX4_clauseHere_80 (fun H locs hW hS => ?_)
          refine lv_if_eq (pc := 83) (tgt := 88) hx hb dX4_clauseHere_83 (by decide) (fun c15 => ?_) (fun c15 => ?_)
          · have hd := wt_it hd c15
            refine lv_aload_n (pc := 88) hx hb dX4_clauseHere_88 rfl (lv_at hl 0 rfl) ?_
            refine lv_iconst (pc := 89) (v := 1) hx hb dX4_clauseHere_89 (by decide) ?_
            refine lv_bipush (pc := 90) (v := 12) hx hb dX4_clauseHere_90 (by decide) ?_
            refine lv_bipush (pc := 92) (v := 9) hx hb dX4_clauseHere_92 (by decide) ?_
            refine lv_bipush (pc := 94) (v := 11) hx hb dX4_clauseHere_94 (by decide) ?_
            refine lv_iconst (pc := 96) (v := 5) hx hb dX4_clauseHere_96 (by decide) ?_
            refine lv_iconst (pc := 97) (v := 0) hx hb dX4_clauseHere_97 (by decide) ?_
            obtain ⟨w16, hc17, hd⟩ := wt_bd_o hd
            refine kX4_isWord (pc := 98) hx hb hml hown hts hK hJ hW hS hc17 hl.1 (Nat.le_of_ble_eq_true rfl) ⟨Nat.le_of_ble_eq_true rfl, Nat.le_of_ble_eq_true rfl⟩ ⟨Nat.le_refl _, Nat.le_refl _⟩ dX4_clauseHere_98 (fun H locs hW hS => ?_)
            refine lv_if_eq (pc := 101) (tgt := 106) hx hb dX4_clauseHere_101 (by decide) (fun c18 => ?_) (fun c18 => ?_)
            · have hd := wt_it hd c18
              refine lv_aload_n (pc := 106) hx hb dX4_clauseHere_106 rfl (lv_at hl 0 rfl) ?_
              refine lv_iconst (pc := 107) (v := 3) hx hb dX4_clauseHere_107 (by decide) ?_
              refine lv_bipush (pc := 108) (v := 15) hx hb dX4_clauseHere_108 (by decide) ?_
              refine lv_bipush (pc := 110) (v := 13) hx hb dX4_clauseHere_110 (by decide) ?_
              refine lv_bipush (pc := 112) (v := 13) hx hb dX4_clauseHere_112 (by decide) ?_
              refine lv_bipush (pc := 114) (v := 15) hx hb dX4_clauseHere_114 (by decide) ?_
              refine lv_bipush (pc := 116) (v := 14) hx hb dX4_clauseHere_116 (by decide) ?_
              obtain ⟨w19, hc20, hd⟩ := wt_bd_o hd
              refine kX4_isWord (pc := 118) hx hb hml hown hts hK hJ hW hS hc20 hl.1 (Nat.le_of_ble_eq_true rfl) ⟨Nat.le_of_ble_eq_true rfl, Nat.le_of_ble_eq_true rfl⟩ ⟨Nat.le_refl _, Nat.le_refl _⟩ dX4_clauseHere_118 (fun H locs hW hS => ?_)
              refine lv_if_eq (pc := 121) (tgt := 129) hx hb dX4_clauseHere_121 (by decide) (fun c21 => ?_) (fun c21 => ?_)
              · have hd := wt_it hd c21
                refine lv_iconst (pc := 129) (v := -1) hx hb dX4_clauseHere_129 (by decide) ?_
                exact mr_iret hx hb hr rfl hlocks (wt_p1 hd) (wt_p2 hd) hW hK hS dX4_clauseHere_130
              · have hd := wt_if hd c21
                refine lv_bipush (pc := 124) (v := 6) hx hb dX4_clauseHere_124 (by decide) ?_
                refine lv_goto (pc := 126) (tgt := 130) hx hb dX4_clauseHere_126 (by decide) ?_
                exact mr_iret hx hb hr rfl hlocks (wt_p1 hd) (wt_p2 hd) hW hK hS dX4_clauseHere_130
            · have hd := wt_if hd c18
              refine lv_iconst (pc := 104) (v := 5) hx hb dX4_clauseHere_104 (by decide) ?_
              exact mr_iret hx hb hr rfl hlocks (wt_p1 hd) (wt_p2 hd) hW hK hS dX4_clauseHere_105
          · have hd := wt_if hd c15
            refine lv_iconst (pc := 86) (v := 4) hx hb dX4_clauseHere_86 (by decide) ?_
            exact mr_iret hx hb hr rfl hlocks (wt_p1 hd) (wt_p2 hd) hW hK hS dX4_clauseHere_87
        · have hd := wt_if hd c12
          refine lv_iconst (pc := 69) (v := 3) hx hb dX4_clauseHere_69 (by decide) ?_
          exact mr_iret hx hb hr rfl hlocks (wt_p1 hd) (wt_p2 hd) hW hK hS dX4_clauseHere_70
      · have hd := wt_if hd c9
        refine lv_iconst (pc := 51) (v := 2) hx hb dX4_clauseHere_51 (by decide) ?_
        exact mr_iret hx hb hr rfl hlocks (wt_p1 hd) (wt_p2 hd) hW hK hS dX4_clauseHere_52
    · have hd := wt_if hd c6
      refine lv_iconst (pc := 33) (v := 1) hx hb dX4_clauseHere_33 (by decide) ?_
      exact mr_iret hx hb hr rfl hlocks (wt_p1 hd) (wt_p2 hd) hW hK hS dX4_clauseHere_34
  · have hd := wt_if hd c3
    refine lv_iconst (pc := 15) (v := 0) hx hb dX4_clauseHere_15 (by decide) ?_
    exact mr_iret hx hb hr rfl hlocks (wt_p1 hd) (wt_p2 hd) hW hK hS dX4_clauseHere_16
theorem kX4_clauseHere {p : Program} {l : Launch} {e : Env} {R : Room} {s : State} {m : MethodId} {args : Array Value} {below : List Frame} {meth : Method} {c : Code} {H : Heap} {locs : List Loc} {cells slots : Nat} {Q : State → Prop} {cc : ByteArray} {pc : Nat} {ls : Array Slot} {rest : List Value} {H0 : Heap} {nL : Nat} {X : MPar} {lo hi : Nat} {σ : MSt}  {out_ : Int32 × MSt} (hx : p.tables.exec = Jvm.exec) (hb : c.code = cc) (hml : c.maxLocals = nL) (hown : s.vm.findClass RX4 = some m.cls) (hts : ∀ w ∈ lw_all, w.before args s = true) (hK : mK X s) (hJ : mJ X lo hi) (hW : mW X σ H) (hS : va_S (mA lo hi) H0 H locs) (hd : dX4_clauseHere σ = some out_) (hsz : ls.size = nL) (hrm : (rest.map fun v => v.category).sum ≤ 8) (hR : 5 ≤ R.frames ∧ 109 ≤ R.locals) (hcs : cells ≤ R.cells ∧ slots ≤ R.slots) (hdg : decode cc pc = .ok (.invokevirtual 144, 3)) (kk : ∀ (H1 : Heap) (locs1 : List Loc), mW X out_.2 H1 → va_S (mA lo hi) H0 H1 locs1 → W p l e R s m args below meth c H1 locs1 cells slots Q (F0 m (pc + 3) ls (.int out_.1 :: rest))) : W p l e R s m args below meth c H locs cells slots Q (F0 m pc ls (.ref X.1.1 :: rest)) := by
  refine va_calli (va_runV (As := []) (rest := rest) ⟨hx, hb, hml, hown, hts⟩ (wX4_clauseHere l hJ hd) (cwV 0 hts (lw_V q1715 q1717 qs30 q88 q1718) rfl rfl rfl (by decide +kernel) hR) (mr_pre hK hW) rfl rfl hsz rfl (lv_room hrm) hdg hcs) hS (fun _ _ h => h) (fun _ h => h) (fun r u t H1 locs1 ht hvm hp hB hz hk hS1 => ?_)
  have hp : r = out_.1 := hp
  subst hp
  have hW1 : mW X out_.2 t.heap := hB.1
  rw [ht] at hW1
  exact kk H1 locs1 hW1 hS1
noncomputable def dX4_wrong (σ : MSt) (a0 : Int32) (a1 : Int32) : Option (MSt) :=
  if (σ.1 5) = 0 then (wt_lt (m_sF σ 5 a0) fun σ2 => wt_lt (m_sF σ2 6 a1) fun σ3 => some σ3) else (some σ)
set_option maxHeartbeats 4000000 in
theorem wX4_wrong (l : Launch) {X : MPar} {lo hi : Nat} (hJ : mJ X lo hi) {σ : MSt} {a0 : Int32} {a1 : Int32} {out_ : MSt} (hd : dX4_wrong σ a0 a1 = some out_) : Met l yX4_wrong (ws_ yX4_wrong cX4_wrong 3 none) ({ frames := 0, cells := 0, slots := 0, locals := 0 }) (mP X σ [.ref X.1.1, .int a0, .int a1]) (mQv X out_ (mA lo hi)) 0 0 (mA lo hi) := by
  refine Met.ofW (cc := cX4_wrong) (maxL := 3) (ret := none) (by decide) rfl ?_
  intro p_ e_ s_ m_ args_ below_ meth_ c_ s₁_ B hml hv
  obtain ⟨rfl, hW, hK⟩ := hv
  have hx := B.exec
  have hb := B.bytes
  have hr := B.returns
  have hts := atoms_spec (ws := (ws_ yX4_wrong cX4_wrong 3 none)) B.pre
  have hts : ∀ w ∈ lw_all, w.before _ s_ = true := fun w h => hts w (List.mem_cons_of_mem _ h)
  have hown : s_.vm.findClass RX4 = some m_.cls := findClass_of_methodNamed B.named
  have hlocks := B.notSynchronized
  have hS : va_S (mA lo hi) s_.heap s_.heap [] := va_S.rf
  have hl := lv_entry ([.ref X.1.1, .int a0, .int a1]) (n := 3) (Nat.le_of_ble_eq_true rfl)
  rw [lg_entry_eq]
  generalize (lg_sl ([.ref X.1.1, .int a0, .int a1]) ++ List.replicate (3 - (lg_sl ([.ref X.1.1, .int a0, .int a1])).length) Slot.unset).toArray = ls at hl ⊢
  have hl : lv_has ls 3 [(0, .ref X.1.1), (1, .int a0), (2, .int a1)] := hl
  unfold dX4_wrong at hd
  refine lv_aload_n (pc := 0) hx hb dX4_wrong_0 rfl (lv_at hl 0 rfl) ?_
  refine mr_get (pc := 1) (k := 5) (v := .int ((σ.1 5))) hx hb hts hown hK hW (by decide) rfl q1534 dX4_wrong_1 ?_
  refine lv_if_ne (pc := 4) (tgt := 17) hx hb dX4_wrong_4 (by decide) (fun c1 => ?_) (fun c1 => ?_)
  · have hd := wt_if hd c1
    exact mr_vret hx hb hr hlocks (Option.some.inj hd) hW hK hS dX4_wrong_17
  · have hd := wt_it hd c1
    refine lv_aload_n (pc := 7) hx hb dX4_wrong_7 rfl (lv_at hl 0 rfl) ?_
    refine lv_iload_n (pc := 8) hx hb dX4_wrong_8 rfl (lv_at hl 1 rfl) ?_
    obtain ⟨σ2, eσ2, hd⟩ := wt_lt_o hd
    refine mr_put (pc := 9) (k := 5) hx hb hts hown hK hW hJ hS (by decide) rfl eσ2 q1534 dX4_wrong_9 (fun H locs hW hS => ?_)
    refine lv_aload_n (pc := 12) hx hb dX4_wrong_12 rfl (lv_at hl 0 rfl) ?_
    refine lv_iload_n (pc := 13) hx hb dX4_wrong_13 rfl (lv_at hl 2 rfl) ?_
    obtain ⟨σ3, eσ3, hd⟩ := wt_lt_o hd
    refine mr_put (pc := 14) (k := 6) hx hb hts hown hK hW hJ hS (by decide) rfl eσ3 q1535 dX4_wrong_14 (fun H locs hW hS => ?_)
    exact mr_vret hx hb hr hlocks (Option.some.inj hd) hW hK hS dX4_wrong_17
theorem kX4_wrong {p : Program} {l : Launch} {e : Env} {R : Room} {s : State} {m : MethodId} {args : Array Value} {below : List Frame} {meth : Method} {c : Code} {H : Heap} {locs : List Loc} {cells slots : Nat} {Q : State → Prop} {cc : ByteArray} {pc : Nat} {ls : Array Slot} {rest : List Value} {H0 : Heap} {nL : Nat} {X : MPar} {lo hi : Nat} {σ : MSt} {a0 : Int32} {a1 : Int32} {out_ : MSt} (hx : p.tables.exec = Jvm.exec) (hb : c.code = cc) (hml : c.maxLocals = nL) (hown : s.vm.findClass RX4 = some m.cls) (hts : ∀ w ∈ lw_all, w.before args s = true) (hK : mK X s) (hJ : mJ X lo hi) (hW : mW X σ H) (hS : va_S (mA lo hi) H0 H locs) (hd : dX4_wrong σ a0 a1 = some out_) (hsz : ls.size = nL) (hrm : (rest.map fun v => v.category).sum ≤ 8) (hR : 1 ≤ R.frames ∧ 22 ≤ R.locals) (hcs : cells ≤ R.cells ∧ slots ≤ R.slots) (hdg : decode cc pc = .ok (.invokevirtual 123, 3)) (kk : ∀ (H1 : Heap) (locs1 : List Loc), mW X out_ H1 → va_S (mA lo hi) H0 H1 locs1 → W p l e R s m args below meth c H1 locs1 cells slots Q (F0 m (pc + 3) ls (rest))) : W p l e R s m args below meth c H locs cells slots Q (F0 m pc ls (.int a1 :: .int a0 :: .ref X.1.1 :: rest)) := by
  refine va_callv (va_runV (As := [.int a0, .int a1]) (rest := rest) ⟨hx, hb, hml, hown, hts⟩ (wX4_wrong l hJ hd) (cwV 2 hts (lw_V q1730 q1732 qs33 q88 q1733) rfl rfl rfl (by decide +kernel) hR) (mr_pre hK hW) rfl rfl hsz rfl (lv_room hrm) hdg hcs) hS (fun _ _ h => h) (fun _ h => h) (fun u t H1 locs1 ht hvm hp hB hz hk hS1 => ?_)
  have hW1 : mW X out_ t.heap := hB.1
  rw [ht] at hW1
  exact kk H1 locs1 hW1 hS1
noncomputable def bX4_skipWord_1  (v1 : MSt) : Option ((MSt) ⊕ (MSt)) :=
  wt_bd (dX4_byteAt v1 (v1.1 4)) fun w11 => if w11 < (97 : Int32) then (some (.inr v1)) else (wt_bd (dX4_byteAt v1 (v1.1 4)) fun w14 => if (122 : Int32) < w14 then (some (.inr v1)) else (wt_lt (m_sF v1 4 ((v1.1 4) + (1 : Int32))) fun σ17 => some (.inl σ17)))
noncomputable def dX4_skipWord (σ : MSt)  : Option (MSt) :=
  wt_bd (wt_whC (bX4_skipWord_1) σ) fun w2 => some w2
set_option maxHeartbeats 4000000 in
theorem wX4_skipWord (l : Launch) {X : MPar} {lo hi : Nat} (hJ : mJ X lo hi) {σ : MSt}  {out_ : MSt} (hd : dX4_skipWord σ = some out_) : Met l yX4_skipWord (ws_ yX4_skipWord cX4_skipWord 1 none) ({ frames := 1, cells := 0, slots := 0, locals := 21 }) (mP X σ [.ref X.1.1]) (mQv X out_ (mA lo hi)) 0 0 (mA lo hi) := by
  refine Met.ofW (cc := cX4_skipWord) (maxL := 1) (ret := none) (by decide) rfl ?_
  intro p_ e_ s_ m_ args_ below_ meth_ c_ s₁_ B hml hv
  obtain ⟨rfl, hW, hK⟩ := hv
  have hx := B.exec
  have hb := B.bytes
  have hr := B.returns
  have hts := atoms_spec (ws := (ws_ yX4_skipWord cX4_skipWord 1 none)) B.pre
  have hts : ∀ w ∈ lw_all, w.before _ s_ = true := fun w h => hts w (List.mem_cons_of_mem _ h)
  have hown : s_.vm.findClass RX4 = some m_.cls := findClass_of_methodNamed B.named
  have hlocks := B.notSynchronized
  have hS : va_S (mA lo hi) s_.heap s_.heap [] := va_S.rf
  have hl := lv_entry ([.ref X.1.1]) (n := 1) (Nat.le_of_ble_eq_true rfl)
  rw [lg_entry_eq]
  generalize (lg_sl ([.ref X.1.1]) ++ List.replicate (1 - (lg_sl ([.ref X.1.1])).length) Slot.unset).toArray = ls at hl ⊢
  have hl : lv_has ls 1 [(0, .ref X.1.1)] := hl
  unfold dX4_skipWord at hd
  obtain ⟨w2, hL3, hq4⟩ := wt_bd_o hd
  have hX5 : ∀ w2_ : MSt, w2_ = w2 → ∀ (H : Heap) (locs : List Loc) (ls : Array Slot), mW X w2_ H → va_S (mA lo hi) s_.heap H locs → lv_has ls 1 [] → W p_ l e_ (headSpec (ws_ yX4_skipWord cX4_skipWord 1 none) ({ frames := 1, cells := 0, slots := 0, locals := 21 })).room s_ m_ ([.ref X.1.1] : List Value).toArray below_ meth_ c_ H locs 0 0 (MQ below_ (mQv X out_ (mA lo hi)) ([.ref X.1.1] : List Value).toArray s_ 0 0 (mA lo hi)) (F0 m_ 39 ls []) := by
    intro w2_ hw_
    have hd := hq4
    subst hw_
    clear hL3 hq4
    intro H locs ls hW hS hl
    exact mr_vret hx hb hr hlocks (Option.some.inj hd) hW hK hS dX4_skipWord_39
  have hI10 : ∀ (k9 : Nat) (v1 : MSt), wt_wh (bX4_skipWord_1) k9 v1 = some w2 → ∀ (H : Heap) (locs : List Loc) (ls : Array Slot), mW X v1 H → va_S (mA lo hi) s_.heap H locs → lv_has ls 1 [(0, .ref X.1.1)] → W p_ l e_ (headSpec (ws_ yX4_skipWord cX4_skipWord 1 none) ({ frames := 1, cells := 0, slots := 0, locals := 21 })).room s_ m_ ([.ref X.1.1] : List Value).toArray below_ meth_ c_ H locs 0 0 (MQ below_ (mQv X out_ (mA lo hi)) ([.ref X.1.1] : List Value).toArray s_ 0 0 (mA lo hi)) (F0 m_ 0 ls []) := by
    intro k9
    induction k9 with
    | zero => intro v1 hd; exact absurd hd wt_wh_z
    | succ k9 ih7 =>
      intro v1 hd
      intro H locs ls hW hS hl
      obtain ⟨r8, hd, hk6⟩ := wt_wh_o hd
      unfold bX4_skipWord_1 at hd
      refine lv_aload_n (pc := 0) hx hb dX4_skipWord_0 rfl (lv_at hl 0 rfl) ?_
      refine lv_aload_n (pc := 1) hx hb dX4_skipWord_1 rfl (lv_at hl 0 rfl) ?_
      refine mr_get (pc := 2) (k := 4) (v := .int ((v1.1 4))) hx hb hts hown hK hW (by decide) rfl q1533 dX4_skipWord_2 ?_
      obtain ⟨w11, hc12, hd⟩ := wt_bd_o hd
      refine kX4_byteAt (pc := 5) hx hb hml hown hts hK hJ hW hS hc12 hl.1 (Nat.le_of_ble_eq_true rfl) ⟨Nat.le_of_ble_eq_true rfl, Nat.le_of_ble_eq_true rfl⟩ ⟨Nat.le_refl _, Nat.le_refl _⟩ dX4_skipWord_5 (fun H locs hW hS => ?_)
      refine lv_bipush (pc := 8) (v := 97) hx hb dX4_skipWord_8 (by decide) ?_
      refine lv_icmp_lt (pc := 10) (tgt := 39) hx hb dX4_skipWord_10 (by decide) (fun c13 => ?_) (fun c13 => ?_)
      · have hd := wt_it hd c13
        exact hX5 v1 (wt_exit hd hk6) _ _ _ hW hS (lv_sub hl [] rfl)
      · have hd := wt_if hd c13
        refine lv_aload_n (pc := 13) hx hb dX4_skipWord_13 rfl (lv_at hl 0 rfl) ?_
        refine lv_aload_n (pc := 14) hx hb dX4_skipWord_14 rfl (lv_at hl 0 rfl) ?_
        refine mr_get (pc := 15) (k := 4) (v := .int ((v1.1 4))) hx hb hts hown hK hW (by decide) rfl q1533 dX4_skipWord_15 ?_
        obtain ⟨w14, hc15, hd⟩ := wt_bd_o hd
        refine kX4_byteAt (pc := 18) hx hb hml hown hts hK hJ hW hS hc15 hl.1 (Nat.le_of_ble_eq_true rfl) ⟨Nat.le_of_ble_eq_true rfl, Nat.le_of_ble_eq_true rfl⟩ ⟨Nat.le_refl _, Nat.le_refl _⟩ dX4_skipWord_18 (fun H locs hW hS => ?_)
        refine lv_bipush (pc := 21) (v := 122) hx hb dX4_skipWord_21 (by decide) ?_
        refine lv_icmp_gt (pc := 23) (tgt := 39) hx hb dX4_skipWord_23 (by decide) (fun c16 => ?_) (fun c16 => ?_)
        · have hd := wt_it hd c16
          exact hX5 v1 (wt_exit hd hk6) _ _ _ hW hS (lv_sub hl [] rfl)
        · have hd := wt_if hd c16
          refine lv_aload_n (pc := 26) hx hb dX4_skipWord_26 rfl (lv_at hl 0 rfl) ?_
          refine lv_dup (pc := 27) hx hb dX4_skipWord_27 rfl ?_
          refine mr_get (pc := 28) (k := 4) (v := .int ((v1.1 4))) hx hb hts hown hK hW (by decide) rfl q1533 dX4_skipWord_28 ?_
          refine lv_iconst (pc := 31) (v := 1) hx hb dX4_skipWord_31 (by decide) ?_
          refine lv_iadd (pc := 32) hx hb dX4_skipWord_32 ?_
          obtain ⟨σ17, eσ17, hd⟩ := wt_lt_o hd
          refine mr_put (pc := 33) (k := 4) hx hb hts hown hK hW hJ hS (by decide) rfl eσ17 q1533 dX4_skipWord_33 (fun H locs hW hS => ?_)
          refine lv_goto (pc := 36) (tgt := 0) hx hb dX4_skipWord_36 (by decide) ?_
          exact ih7 _ (wt_again hd hk6) _ _ _ hW hS hl
  obtain ⟨k9, hL3⟩ := wt_whC_o hL3
  exact hI10 k9 _ hL3 _ _ _ hW hS hl
theorem kX4_skipWord {p : Program} {l : Launch} {e : Env} {R : Room} {s : State} {m : MethodId} {args : Array Value} {below : List Frame} {meth : Method} {c : Code} {H : Heap} {locs : List Loc} {cells slots : Nat} {Q : State → Prop} {cc : ByteArray} {pc : Nat} {ls : Array Slot} {rest : List Value} {H0 : Heap} {nL : Nat} {X : MPar} {lo hi : Nat} {σ : MSt}  {out_ : MSt} (hx : p.tables.exec = Jvm.exec) (hb : c.code = cc) (hml : c.maxLocals = nL) (hown : s.vm.findClass RX4 = some m.cls) (hts : ∀ w ∈ lw_all, w.before args s = true) (hK : mK X s) (hJ : mJ X lo hi) (hW : mW X σ H) (hS : va_S (mA lo hi) H0 H locs) (hd : dX4_skipWord σ = some out_) (hsz : ls.size = nL) (hrm : (rest.map fun v => v.category).sum ≤ 8) (hR : 2 ≤ R.frames ∧ 41 ≤ R.locals) (hcs : cells ≤ R.cells ∧ slots ≤ R.slots) (hdg : decode cc pc = .ok (.invokevirtual 150, 3)) (kk : ∀ (H1 : Heap) (locs1 : List Loc), mW X out_ H1 → va_S (mA lo hi) H0 H1 locs1 → W p l e R s m args below meth c H1 locs1 cells slots Q (F0 m (pc + 3) ls (rest))) : W p l e R s m args below meth c H locs cells slots Q (F0 m pc ls (.ref X.1.1 :: rest)) := by
  refine va_callv (va_runV (As := []) (rest := rest) ⟨hx, hb, hml, hown, hts⟩ (wX4_skipWord l hJ hd) (cwV 0 hts (lw_V q1734 q1736 qs34 q88 q1737) rfl rfl rfl (by decide +kernel) hR) (mr_pre hK hW) rfl rfl hsz rfl (lv_room hrm) hdg hcs) hS (fun _ _ h => h) (fun _ h => h) (fun u t H1 locs1 ht hvm hp hB hz hk hS1 => ?_)
  have hW1 : mW X out_ t.heap := hB.1
  rw [ht] at hW1
  exact kk H1 locs1 hW1 hS1
noncomputable def dX4_isDigit (a0 : Int32) : Option (Int32) :=
  if a0 < (48 : Int32) then (some (0 : Int32)) else (if (57 : Int32) < a0 then (some (0 : Int32)) else (some (1 : Int32)))
set_option maxHeartbeats 4000000 in
theorem wX4_isDigit (l : Launch) {a0 : Int32} {out_ : Int32} (hd : dX4_isDigit a0 = some out_) : Met l yX4_isDigit (ws_ yX4_isDigit cX4_isDigit 1 (some .boolean)) ({ frames := 0, cells := 0, slots := 0, locals := 0 }) (va_Pc [.int a0] (fun _ => True)) (msQi out_) 0 0 (fun _ => False) := by
  refine Met.ofW (cc := cX4_isDigit) (maxL := 1) (ret := (some .boolean)) (by decide) rfl ?_
  intro p_ e_ s_ m_ args_ below_ meth_ c_ s₁_ B hml hv
  obtain ⟨rfl, -⟩ := hv
  have hx := B.exec
  have hb := B.bytes
  have hr := B.returns
  have hts := atoms_spec (ws := (ws_ yX4_isDigit cX4_isDigit 1 (some .boolean))) B.pre
  have hts : ∀ w ∈ lw_all, w.before _ s_ = true := fun w h => hts w (List.mem_cons_of_mem _ h)
  have hown : s_.vm.findClass RX4 = some m_.cls := findClass_of_methodNamed B.named
  have hlocks := B.notSynchronized
  have hS : va_S (fun _ => False) s_.heap s_.heap [] := va_S.rf
  have hl := lv_entry ([.int a0]) (n := 1) (Nat.le_of_ble_eq_true rfl)
  rw [lg_entry_eq]
  generalize (lg_sl ([.int a0]) ++ List.replicate (1 - (lg_sl ([.int a0])).length) Slot.unset).toArray = ls at hl ⊢
  have hl : lv_has ls 1 [(0, .int a0)] := hl
  unfold dX4_isDigit at hd
  refine lv_iload_n (pc := 0) hx hb dX4_isDigit_0 rfl (lv_at hl 0 rfl) ?_
  refine lv_bipush (pc := 1) (v := 48) hx hb dX4_isDigit_1 (by decide) ?_
  refine lv_icmp_lt (pc := 3) (tgt := 16) hx hb dX4_isDigit_3 (by decide) (fun c1 => ?_) (fun c1 => ?_)
  · have hd := wt_it hd c1
    refine lv_iconst (pc := 16) (v := 0) hx hb dX4_isDigit_16 (by decide) ?_
    exact ms_iret hx hb hr rfl hlocks (Option.some.inj hd) hS dX4_isDigit_17
  · have hd := wt_if hd c1
    refine lv_iload_n (pc := 6) hx hb dX4_isDigit_6 rfl (lv_at hl 0 rfl) ?_
    refine lv_bipush (pc := 7) (v := 57) hx hb dX4_isDigit_7 (by decide) ?_
    refine lv_icmp_gt (pc := 9) (tgt := 16) hx hb dX4_isDigit_9 (by decide) (fun c2 => ?_) (fun c2 => ?_)
    · have hd := wt_it hd c2
      refine lv_iconst (pc := 16) (v := 0) hx hb dX4_isDigit_16 (by decide) ?_
      exact ms_iret hx hb hr rfl hlocks (Option.some.inj hd) hS dX4_isDigit_17
    · have hd := wt_if hd c2
      refine lv_iconst (pc := 12) (v := 1) hx hb dX4_isDigit_12 (by decide) ?_
      refine lv_goto (pc := 13) (tgt := 17) hx hb dX4_isDigit_13 (by decide) ?_
      exact ms_iret hx hb hr rfl hlocks (Option.some.inj hd) hS dX4_isDigit_17
theorem kX4_isDigit {p : Program} {l : Launch} {e : Env} {R : Room} {s : State} {m : MethodId} {args : Array Value} {below : List Frame} {meth : Method} {c : Code} {H : Heap} {locs : List Loc} {cells slots : Nat} {Q : State → Prop} {cc : ByteArray} {pc : Nat} {ls : Array Slot} {rest : List Value} {H0 : Heap} {nL : Nat} {X : MPar} {σ : MSt} {A : Nat → Prop} {a0 : Int32} {out_ : Int32} (hx : p.tables.exec = Jvm.exec) (hb : c.code = cc) (hml : c.maxLocals = nL) (hown : s.vm.findClass RX4 = some m.cls) (hts : ∀ w ∈ lw_all, w.before args s = true) (hK : mK X s) (hW : mW X σ H) (hS : va_S A H0 H locs) (hd : dX4_isDigit a0 = some out_) (hsz : ls.size = nL) (hrm : (rest.map fun v => v.category).sum ≤ 8) (hR : 1 ≤ R.frames ∧ 20 ≤ R.locals) (hcs : cells ≤ R.cells ∧ slots ≤ R.slots) (hdg : decode cc pc = .ok (.invokestatic 119, 3)) (kk : ∀ (H1 : Heap) (locs1 : List Loc), mW X σ H1 → va_S A H0 H1 locs1 → W p l e R s m args below meth c H1 locs1 cells slots Q (F0 m (pc + 3) ls (.int out_ :: rest))) : W p l e R s m args below meth c H locs cells slots Q (F0 m pc ls (.int a0 :: rest)) := by
  refine va_calli (va_runS (As := [.int a0]) (rest := rest) ⟨hx, hb, hml, hown, hts⟩ (wX4_isDigit l hd) (va_cwS 1 hts (lw_S q1742 q1743 q88 q1744) rfl rfl rfl (by decide +kernel) hR) ms_pre rfl rfl hsz rfl (lv_room hrm) hdg hcs) hS (fun _ _ h => h.elim) (fun _ h => h.elim) (fun r u t H1 locs1 ht hvm hp hB hz hk hS1 => ?_)
  have hp : r = out_ := hp
  subst hp
  exact kk H1 locs1 (hW.kept fun q hq => hk q hq (fun h => h)) hS1
noncomputable def bX4_number_1  (v16 : Int32 × MSt) : Option ((Int32 × MSt) ⊕ (Int32 × MSt)) :=
  wt_bd (dX4_byteAt v16.2 (v16.2.1 4)) fun w26 => wt_bd (dX4_isDigit w26) fun w28 => if w28 = 0 then (some (.inr (v16.1, v16.2))) else (wt_bd (dX4_byteAt v16.2 (v16.2.1 4)) fun w31 => wt_lt (((((10 : Int32) * v16.1) + w31) - (48 : Int32))) fun n33 => wt_bd (if n33 ≤ (100000 : Int32) then (some (n33)) else (some (100000 : Int32))) fun w34 => wt_lt (m_sF v16.2 4 ((v16.2.1 4) + (1 : Int32))) fun σ39 => some (.inl (w34, σ39)))
noncomputable def dX4_number (σ : MSt) (a0 : Int32) (a1 : Int32) (a2 : Int32) : Option (Int32 × MSt) :=
  if (σ.1 5) = 0 then (wt_bd (dX4_blanks σ) fun w2 => wt_lt ((w2.1 4)) fun n4 => wt_bd (dX4_byteAt w2 (w2.1 4)) fun w5 => wt_bd (dX4_isDigit w5) fun w7 => wt_bd (if w7 = 0 then (wt_bd (dX4_wrong w2 (1 : Int32) (w2.1 4)) fun w14 => some (w14)) else (some (w2))) fun w9 => wt_bd (wt_whC (bX4_number_1) ((0 : Int32), w9)) fun w17 => wt_bd (dX4_in w17.1 a0 a1) fun w40 => wt_bd (if w40 = 0 then (some (.inl ())) else (if w17.1 = a2 then (some (.inl ())) else (some (.inr (w17.1, w17.2))))) fun w42 => wt_rs w42 (fun w42 => wt_bd (dX4_wrong w17.2 (2 : Int32) n4) fun w48 => some (w17.1, w48)) (fun z_ => some z_)) else (some ((0 : Int32), σ))
set_option maxHeartbeats 4000000 in
theorem wX4_number (l : Launch) {X : MPar} {lo hi : Nat} (hJ : mJ X lo hi) {σ : MSt} {a0 : Int32} {a1 : Int32} {a2 : Int32} {out_ : Int32 × MSt} (hd : dX4_number σ a0 a1 a2 = some out_) : Met l yX4_number (ws_ yX4_number cX4_number 6 (some .int)) ({ frames := 2, cells := 0, slots := 0, locals := 41 }) (mP X σ [.ref X.1.1, .int a0, .int a1, .int a2]) (mQi X out_.1 out_.2 (mA lo hi)) 0 0 (mA lo hi) := by
  refine Met.ofW (cc := cX4_number) (maxL := 6) (ret := (some .int)) (by decide) rfl ?_
  intro p_ e_ s_ m_ args_ below_ meth_ c_ s₁_ B hml hv
  obtain ⟨rfl, hW, hK⟩ := hv
  have hx := B.exec
  have hb := B.bytes
  have hr := B.returns
  have hts := atoms_spec (ws := (ws_ yX4_number cX4_number 6 (some .int))) B.pre
  have hts : ∀ w ∈ lw_all, w.before _ s_ = true := fun w h => hts w (List.mem_cons_of_mem _ h)
  have hown : s_.vm.findClass RX4 = some m_.cls := findClass_of_methodNamed B.named
  have hlocks := B.notSynchronized
  have hS : va_S (mA lo hi) s_.heap s_.heap [] := va_S.rf
  have hl := lv_entry ([.ref X.1.1, .int a0, .int a1, .int a2]) (n := 6) (Nat.le_of_ble_eq_true rfl)
  rw [lg_entry_eq]
  generalize (lg_sl ([.ref X.1.1, .int a0, .int a1, .int a2]) ++ List.replicate (6 - (lg_sl ([.ref X.1.1, .int a0, .int a1, .int a2])).length) Slot.unset).toArray = ls at hl ⊢
  have hl : lv_has ls 6 [(0, .ref X.1.1), (1, .int a0), (2, .int a1), (3, .int a2)] := hl
  unfold dX4_number at hd
  refine lv_aload_n (pc := 0) hx hb dX4_number_0 rfl (lv_at hl 0 rfl) ?_
  refine mr_get (pc := 1) (k := 5) (v := .int ((σ.1 5))) hx hb hts hown hK hW (by decide) rfl q1534 dX4_number_1 ?_
  refine lv_if_eq (pc := 4) (tgt := 9) hx hb dX4_number_4 (by decide) (fun c1 => ?_) (fun c1 => ?_)
  · have hd := wt_it hd c1
    refine lv_aload_n (pc := 9) hx hb dX4_number_9 rfl (lv_at hl 0 rfl) ?_
    obtain ⟨w2, hc3, hd⟩ := wt_bd_o hd
    refine kX4_blanks (pc := 10) hx hb hml hown hts hK hJ hW hS hc3 hl.1 (Nat.le_of_ble_eq_true rfl) ⟨Nat.le_of_ble_eq_true rfl, Nat.le_of_ble_eq_true rfl⟩ ⟨Nat.le_refl _, Nat.le_refl _⟩ dX4_number_10 (fun H locs hW hS => ?_)
    refine lv_aload_n (pc := 13) hx hb dX4_number_13 rfl (lv_at hl 0 rfl) ?_
    refine mr_get (pc := 14) (k := 4) (v := .int ((w2.1 4))) hx hb hts hown hK hW (by decide) rfl q1533 dX4_number_14 ?_
    obtain ⟨n4, en4, hd⟩ := wt_lt_o hd
    refine lv_tope en4 ?_
    refine lv_istore (pc := 17) (lv' := [(4, .int n4), (0, .ref X.1.1), (1, .int a0), (2, .int a1), (3, .int a2)]) hx hb dX4_number_17 hl (by decide) rfl (fun ls hl => ?_)
    refine lv_iconst (pc := 19) (v := 0) hx hb dX4_number_19 (by decide) ?_
    refine lv_istore (pc := 20) (lv' := [(5, .int (0 : Int32)), (4, .int n4), (0, .ref X.1.1), (1, .int a0), (2, .int a1), (3, .int a2)]) hx hb dX4_number_20 hl (by decide) rfl (fun ls hl => ?_)
    refine lv_aload_n (pc := 22) hx hb dX4_number_22 rfl (lv_at hl 2 rfl) ?_
    refine lv_aload_n (pc := 23) hx hb dX4_number_23 rfl (lv_at hl 2 rfl) ?_
    refine mr_get (pc := 24) (k := 4) (v := .int ((w2.1 4))) hx hb hts hown hK hW (by decide) rfl q1533 dX4_number_24 ?_
    obtain ⟨w5, hc6, hd⟩ := wt_bd_o hd
    refine kX4_byteAt (pc := 27) hx hb hml hown hts hK hJ hW hS hc6 hl.1 (Nat.le_of_ble_eq_true rfl) ⟨Nat.le_of_ble_eq_true rfl, Nat.le_of_ble_eq_true rfl⟩ ⟨Nat.le_refl _, Nat.le_refl _⟩ dX4_number_27 (fun H locs hW hS => ?_)
    obtain ⟨w7, hc8, hd⟩ := wt_bd_o hd
    refine kX4_isDigit (pc := 30) hx hb hml hown hts hK hW hS hc8 hl.1 (Nat.le_of_ble_eq_true rfl) ⟨Nat.le_of_ble_eq_true rfl, Nat.le_of_ble_eq_true rfl⟩ ⟨Nat.le_refl _, Nat.le_refl _⟩ dX4_number_30 (fun H locs hW hS => ?_)
    obtain ⟨w9, hj10, hq11⟩ := wt_bd_o hd
    have hX12 : ∀ w9_ : MSt, w9_ = w9 → ∀ (H : Heap) (locs : List Loc) (ls : Array Slot), mW X w9_ H → va_S (mA lo hi) s_.heap H locs → lv_has ls 6 [(0, .ref X.1.1), (1, .int a0), (2, .int a1), (3, .int a2), (4, .int n4), (5, .int (0 : Int32))] → W p_ l e_ (headSpec (ws_ yX4_number cX4_number 6 (some .int)) ({ frames := 2, cells := 0, slots := 0, locals := 41 })).room s_ m_ ([.ref X.1.1, .int a0, .int a1, .int a2] : List Value).toArray below_ meth_ c_ H locs 0 0 (MQ below_ (mQi X out_.1 out_.2 (mA lo hi)) ([.ref X.1.1, .int a0, .int a1, .int a2] : List Value).toArray s_ 0 0 (mA lo hi)) (F0 m_ 45 ls []) := by
      intro w9_ hw_
      have hd := hq11
      subst hw_
      clear hj10 hq11
      intro H locs ls hW hS hl
      obtain ⟨w17, hL18, hq19⟩ := wt_bd_o hd
      have hX20 : ∀ w17_ : Int32 × MSt, w17_ = w17 → ∀ (H : Heap) (locs : List Loc) (ls : Array Slot), mW X w17_.2 H → va_S (mA lo hi) s_.heap H locs → lv_has ls 6 [(0, .ref X.1.1), (1, .int a0), (2, .int a1), (3, .int a2), (4, .int n4), (5, .int w17_.1)] → W p_ l e_ (headSpec (ws_ yX4_number cX4_number 6 (some .int)) ({ frames := 2, cells := 0, slots := 0, locals := 41 })).room s_ m_ ([.ref X.1.1, .int a0, .int a1, .int a2] : List Value).toArray below_ meth_ c_ H locs 0 0 (MQ below_ (mQi X out_.1 out_.2 (mA lo hi)) ([.ref X.1.1, .int a0, .int a1, .int a2] : List Value).toArray s_ 0 0 (mA lo hi)) (F0 m_ 107 ls []) := by
        intro w17_ hw_
        have hd := hq19
        subst hw_
        clear hL18 hq19
        intro H locs ls hW hS hl
        refine lv_iload (pc := 107) hx hb dX4_number_107 (lv_at hl 5 rfl) ?_
        refine lv_iload_n (pc := 109) hx hb dX4_number_109 rfl (lv_at hl 1 rfl) ?_
        refine lv_iload_n (pc := 110) hx hb dX4_number_110 rfl (lv_at hl 2 rfl) ?_
        obtain ⟨w40, hc41, hd⟩ := wt_bd_o hd
        refine kX4_in (pc := 111) hx hb hml hown hts hK hW hS hc41 hl.1 (Nat.le_of_ble_eq_true rfl) ⟨Nat.le_of_ble_eq_true rfl, Nat.le_of_ble_eq_true rfl⟩ ⟨Nat.le_refl _, Nat.le_refl _⟩ dX4_number_111 (fun H locs hW hS => ?_)
        obtain ⟨w42, hj43, hq44⟩ := wt_bd_o hd
        have hX45 : ∀ w42_ : Unit, (Sum.inl w42_ : Unit ⊕ _) = w42 → ∀ (H : Heap) (locs : List Loc) (ls : Array Slot), mW X w17_.2 H → va_S (mA lo hi) s_.heap H locs → lv_has ls 6 [(0, .ref X.1.1), (4, .int n4), (5, .int w17_.1)] → W p_ l e_ (headSpec (ws_ yX4_number cX4_number 6 (some .int)) ({ frames := 2, cells := 0, slots := 0, locals := 41 })).room s_ m_ ([.ref X.1.1, .int a0, .int a1, .int a2] : List Value).toArray below_ meth_ c_ H locs 0 0 (MQ below_ (mQi X out_.1 out_.2 (mA lo hi)) ([.ref X.1.1, .int a0, .int a1, .int a2] : List Value).toArray s_ 0 0 (mA lo hi)) (F0 m_ 123 ls []) := by
          intro w42_ hw_
          have hd := wt_rs_l hw_ hq44
          clear hj43 hq44
          intro H locs ls hW hS hl
          refine lv_aload_n (pc := 123) hx hb dX4_number_123 rfl (lv_at hl 0 rfl) ?_
          refine lv_iconst (pc := 124) (v := 2) hx hb dX4_number_124 (by decide) ?_
          refine lv_iload (pc := 125) hx hb dX4_number_125 (lv_at hl 1 rfl) ?_
          obtain ⟨w48, hc49, hd⟩ := wt_bd_o hd
          refine kX4_wrong (pc := 127) hx hb hml hown hts hK hJ hW hS hc49 hl.1 (Nat.le_of_ble_eq_true rfl) ⟨Nat.le_of_ble_eq_true rfl, Nat.le_of_ble_eq_true rfl⟩ ⟨Nat.le_refl _, Nat.le_refl _⟩ dX4_number_127 (fun H locs hW hS => ?_)
          refine lv_iload (pc := 130) hx hb dX4_number_130 (lv_at hl 2 rfl) ?_
          exact mr_iret hx hb hr rfl hlocks (wt_p1 hd) (wt_p2 hd) hW hK hS dX4_number_132
        have hd := hj43
        refine lv_if_eq (pc := 114) (tgt := 123) hx hb dX4_number_114 (by decide) (fun c46 => ?_) (fun c46 => ?_)
        · have hd := wt_it hd c46
          exact hX45 () (Option.some.inj hd) _ _ _ hW hS (lv_sub hl [0, 4, 5] rfl)
        · have hd := wt_if hd c46
          refine lv_iload (pc := 117) hx hb dX4_number_117 (lv_at hl 5 rfl) ?_
          refine lv_iload_n (pc := 119) hx hb dX4_number_119 rfl (lv_at hl 3 rfl) ?_
          refine lv_icmp_ne (pc := 120) (tgt := 130) hx hb dX4_number_120 (by decide) (fun c47 => ?_) (fun c47 => ?_)
          · have hd := wt_if hd c47
            refine lv_iload (pc := 130) hx hb dX4_number_130 (lv_at hl 5 rfl) ?_
            have hd := wt_rs_r (Option.some.inj hd) hq44
            exact mr_iret hx hb hr rfl hlocks (wt_p1 hd) (wt_p2 hd) hW hK hS dX4_number_132
          · have hd := wt_it hd c47
            exact hX45 () (Option.some.inj hd) _ _ _ hW hS (lv_sub hl [0, 4, 5] rfl)
      have hI25 : ∀ (k24 : Nat) (v16 : Int32 × MSt), wt_wh (bX4_number_1) k24 v16 = some w17 → ∀ (H : Heap) (locs : List Loc) (ls : Array Slot), mW X v16.2 H → va_S (mA lo hi) s_.heap H locs → lv_has ls 6 [(0, .ref X.1.1), (1, .int a0), (2, .int a1), (3, .int a2), (4, .int n4), (5, .int v16.1)] → W p_ l e_ (headSpec (ws_ yX4_number cX4_number 6 (some .int)) ({ frames := 2, cells := 0, slots := 0, locals := 41 })).room s_ m_ ([.ref X.1.1, .int a0, .int a1, .int a2] : List Value).toArray below_ meth_ c_ H locs 0 0 (MQ below_ (mQi X out_.1 out_.2 (mA lo hi)) ([.ref X.1.1, .int a0, .int a1, .int a2] : List Value).toArray s_ 0 0 (mA lo hi)) (F0 m_ 45 ls []) := by
        intro k24
        induction k24 with
        | zero => intro v16 hd; exact absurd hd wt_wh_z
        | succ k24 ih22 =>
          intro v16 hd
          intro H locs ls hW hS hl
          obtain ⟨r23, hd, hk21⟩ := wt_wh_o hd
          unfold bX4_number_1 at hd
          refine lv_aload_n (pc := 45) hx hb dX4_number_45 rfl (lv_at hl 0 rfl) ?_
          refine lv_aload_n (pc := 46) hx hb dX4_number_46 rfl (lv_at hl 0 rfl) ?_
          refine mr_get (pc := 47) (k := 4) (v := .int ((v16.2.1 4))) hx hb hts hown hK hW (by decide) rfl q1533 dX4_number_47 ?_
          obtain ⟨w26, hc27, hd⟩ := wt_bd_o hd
          refine kX4_byteAt (pc := 50) hx hb hml hown hts hK hJ hW hS hc27 hl.1 (Nat.le_of_ble_eq_true rfl) ⟨Nat.le_of_ble_eq_true rfl, Nat.le_of_ble_eq_true rfl⟩ ⟨Nat.le_refl _, Nat.le_refl _⟩ dX4_number_50 (fun H locs hW hS => ?_)
          obtain ⟨w28, hc29, hd⟩ := wt_bd_o hd
          refine kX4_isDigit (pc := 53) hx hb hml hown hts hK hW hS hc29 hl.1 (Nat.le_of_ble_eq_true rfl) ⟨Nat.le_of_ble_eq_true rfl, Nat.le_of_ble_eq_true rfl⟩ ⟨Nat.le_refl _, Nat.le_refl _⟩ dX4_number_53 (fun H locs hW hS => ?_)
          refine lv_if_eq (pc := 56) (tgt := 107) hx hb dX4_number_56 (by decide) (fun c30 => ?_) (fun c30 => ?_)
          · have hd := wt_it hd c30
            exact hX20 (v16.1, v16.2) (wt_exit hd hk21) _ _ _ hW hS hl
          · have hd := wt_if hd c30
            refine lv_bipush (pc := 59) (v := 10) hx hb dX4_number_59 (by decide) ?_
            refine lv_iload (pc := 61) hx hb dX4_number_61 (lv_at hl 5 rfl) ?_
            refine lv_imul (pc := 63) hx hb dX4_number_63 ?_
            refine lv_aload_n (pc := 64) hx hb dX4_number_64 rfl (lv_at hl 0 rfl) ?_
            refine lv_aload_n (pc := 65) hx hb dX4_number_65 rfl (lv_at hl 0 rfl) ?_
            refine mr_get (pc := 66) (k := 4) (v := .int ((v16.2.1 4))) hx hb hts hown hK hW (by decide) rfl q1533 dX4_number_66 ?_
            obtain ⟨w31, hc32, hd⟩ := wt_bd_o hd
            refine kX4_byteAt (pc := 69) hx hb hml hown hts hK hJ hW hS hc32 hl.1 (Nat.le_of_ble_eq_true rfl) ⟨Nat.le_of_ble_eq_true rfl, Nat.le_of_ble_eq_true rfl⟩ ⟨Nat.le_refl _, Nat.le_refl _⟩ dX4_number_69 (fun H locs hW hS => ?_)
            refine lv_iadd (pc := 72) hx hb dX4_number_72 ?_
            refine lv_bipush (pc := 73) (v := 48) hx hb dX4_number_73 (by decide) ?_
            refine lv_isub (pc := 75) hx hb dX4_number_75 ?_
            obtain ⟨n33, en33, hd⟩ := wt_lt_o hd
            refine lv_tope en33 ?_
            refine lv_istore (pc := 76) (lv' := [(5, .int n33), (0, .ref X.1.1), (1, .int a0), (2, .int a1), (3, .int a2), (4, .int n4)]) hx hb dX4_number_76 hl (by decide) rfl (fun ls hl => ?_)
            refine lv_iload (pc := 78) hx hb dX4_number_78 (lv_at hl 0 rfl) ?_
            refine lv_ldc (pc := 80) hx hb hown (hts _ q1745) dX4_number_80 ?_
            obtain ⟨w34, hj35, hq36⟩ := wt_bd_o hd
            have hX37 : ∀ w34_ : Int32, w34_ = w34 → ∀ (H : Heap) (locs : List Loc) (ls : Array Slot), mW X v16.2 H → va_S (mA lo hi) s_.heap H locs → lv_has ls 6 [(0, .ref X.1.1), (1, .int a0), (2, .int a1), (3, .int a2), (4, .int n4)] → W p_ l e_ (headSpec (ws_ yX4_number cX4_number 6 (some .int)) ({ frames := 2, cells := 0, slots := 0, locals := 41 })).room s_ m_ ([.ref X.1.1, .int a0, .int a1, .int a2] : List Value).toArray below_ meth_ c_ H locs 0 0 (MQ below_ (mQi X out_.1 out_.2 (mA lo hi)) ([.ref X.1.1, .int a0, .int a1, .int a2] : List Value).toArray s_ 0 0 (mA lo hi)) (F0 m_ 92 ls [.int w34_]) := by
              intro w34_ hw_
              have hd := hq36
              subst hw_
              clear hj35 hq36
              intro H locs ls hW hS hl
              refine lv_istore (pc := 92) (lv' := [(5, .int w34_), (0, .ref X.1.1), (1, .int a0), (2, .int a1), (3, .int a2), (4, .int n4)]) hx hb dX4_number_92 hl (by decide) rfl (fun ls hl => ?_)
              refine lv_aload_n (pc := 94) hx hb dX4_number_94 rfl (lv_at hl 1 rfl) ?_
              refine lv_dup (pc := 95) hx hb dX4_number_95 rfl ?_
              refine mr_get (pc := 96) (k := 4) (v := .int ((v16.2.1 4))) hx hb hts hown hK hW (by decide) rfl q1533 dX4_number_96 ?_
              refine lv_iconst (pc := 99) (v := 1) hx hb dX4_number_99 (by decide) ?_
              refine lv_iadd (pc := 100) hx hb dX4_number_100 ?_
              obtain ⟨σ39, eσ39, hd⟩ := wt_lt_o hd
              refine mr_put (pc := 101) (k := 4) hx hb hts hown hK hW hJ hS (by decide) rfl eσ39 q1533 dX4_number_101 (fun H locs hW hS => ?_)
              refine lv_goto (pc := 104) (tgt := 45) hx hb dX4_number_104 (by decide) ?_
              exact ih22 _ (wt_again hd hk21) _ _ _ hW hS (lv_sub hl [1, 2, 3, 4, 5, 0] rfl)
            have hd := hj35
            refine lv_icmp_le (pc := 82) (tgt := 90) hx hb dX4_number_82 (by decide) (fun c38 => ?_) (fun c38 => ?_)
            · have hd := wt_it hd c38
              refine lv_iload (pc := 90) hx hb dX4_number_90 (lv_at hl 0 rfl) ?_
              exact hX37 n33 (Option.some.inj hd) _ _ _ hW hS (lv_sub hl [1, 2, 3, 4, 5] rfl)
            · have hd := wt_if hd c38
              refine lv_ldc (pc := 85) hx hb hown (hts _ q1745) dX4_number_85 ?_
              refine lv_goto (pc := 87) (tgt := 92) hx hb dX4_number_87 (by decide) ?_
              exact hX37 (100000 : Int32) (Option.some.inj hd) _ _ _ hW hS (lv_sub hl [1, 2, 3, 4, 5] rfl)
      obtain ⟨k24, hL18⟩ := wt_whC_o hL18
      exact hI25 k24 _ hL18 _ _ _ hW hS hl
    have hd := hj10
    refine lv_if_ne (pc := 33) (tgt := 45) hx hb dX4_number_33 (by decide) (fun c13 => ?_) (fun c13 => ?_)
    · have hd := wt_if hd c13
      exact hX12 w2 (Option.some.inj hd) _ _ _ hW hS (lv_sub hl [2, 3, 4, 5, 1, 0] rfl)
    · have hd := wt_it hd c13
      refine lv_aload_n (pc := 36) hx hb dX4_number_36 rfl (lv_at hl 2 rfl) ?_
      refine lv_iconst (pc := 37) (v := 1) hx hb dX4_number_37 (by decide) ?_
      refine lv_aload_n (pc := 38) hx hb dX4_number_38 rfl (lv_at hl 2 rfl) ?_
      refine mr_get (pc := 39) (k := 4) (v := .int ((w2.1 4))) hx hb hts hown hK hW (by decide) rfl q1533 dX4_number_39 ?_
      obtain ⟨w14, hc15, hd⟩ := wt_bd_o hd
      refine kX4_wrong (pc := 42) hx hb hml hown hts hK hJ hW hS hc15 hl.1 (Nat.le_of_ble_eq_true rfl) ⟨Nat.le_of_ble_eq_true rfl, Nat.le_of_ble_eq_true rfl⟩ ⟨Nat.le_refl _, Nat.le_refl _⟩ dX4_number_42 (fun H locs hW hS => ?_)
      exact hX12 w14 (Option.some.inj hd) _ _ _ hW hS (lv_sub hl [2, 3, 4, 5, 1, 0] rfl)
  · have hd := wt_if hd c1
    refine lv_iconst (pc := 7) (v := 0) hx hb dX4_number_7 (by decide) ?_
    exact mr_iret hx hb hr rfl hlocks (wt_p1 hd) (wt_p2 hd) hW hK hS dX4_number_8
theorem kX4_number {p : Program} {l : Launch} {e : Env} {R : Room} {s : State} {m : MethodId} {args : Array Value} {below : List Frame} {meth : Method} {c : Code} {H : Heap} {locs : List Loc} {cells slots : Nat} {Q : State → Prop} {cc : ByteArray} {pc : Nat} {ls : Array Slot} {rest : List Value} {H0 : Heap} {nL : Nat} {X : MPar} {lo hi : Nat} {σ : MSt} {a0 : Int32} {a1 : Int32} {a2 : Int32} {out_ : Int32 × MSt} (hx : p.tables.exec = Jvm.exec) (hb : c.code = cc) (hml : c.maxLocals = nL) (hown : s.vm.findClass RX4 = some m.cls) (hts : ∀ w ∈ lw_all, w.before args s = true) (hK : mK X s) (hJ : mJ X lo hi) (hW : mW X σ H) (hS : va_S (mA lo hi) H0 H locs) (hd : dX4_number σ a0 a1 a2 = some out_) (hsz : ls.size = nL) (hrm : (rest.map fun v => v.category).sum ≤ 8) (hR : 3 ≤ R.frames ∧ 66 ≤ R.locals) (hcs : cells ≤ R.cells ∧ slots ≤ R.slots) (hdg : decode cc pc = .ok (.invokevirtual 153, 3)) (kk : ∀ (H1 : Heap) (locs1 : List Loc), mW X out_.2 H1 → va_S (mA lo hi) H0 H1 locs1 → W p l e R s m args below meth c H1 locs1 cells slots Q (F0 m (pc + 3) ls (.int out_.1 :: rest))) : W p l e R s m args below meth c H locs cells slots Q (F0 m pc ls (.int a2 :: .int a1 :: .int a0 :: .ref X.1.1 :: rest)) := by
  refine va_calli (va_runV (As := [.int a0, .int a1, .int a2]) (rest := rest) ⟨hx, hb, hml, hown, hts⟩ (wX4_number l hJ hd) (cwV 3 hts (lw_V q1738 q1740 qs35 q88 q1741) rfl rfl rfl (by decide +kernel) hR) (mr_pre hK hW) rfl rfl hsz rfl (lv_room hrm) hdg hcs) hS (fun _ _ h => h) (fun _ h => h) (fun r u t H1 locs1 ht hvm hp hB hz hk hS1 => ?_)
  have hp : r = out_.1 := hp
  subst hp
  have hW1 : mW X out_.2 t.heap := hB.1
  rw [ht] at hW1
  exact kk H1 locs1 hW1 hS1
noncomputable def dX4_sign (σ : MSt) (a0 : Int32) : Option (MSt) :=
  if (σ.1 5) = 0 then (wt_bd (dX4_blanks σ) fun w2 => wt_bd (dX4_byteAt w2 (w2.1 4)) fun w4 => if w4 = a0 then (wt_lt (m_sF w2 4 ((w2.1 4) + (1 : Int32))) fun σ9 => some σ9) else (wt_bd (dX4_wrong w2 (1 : Int32) (w2.1 4)) fun w7 => some w7)) else (some σ)
set_option maxHeartbeats 4000000 in
theorem wX4_sign (l : Launch) {X : MPar} {lo hi : Nat} (hJ : mJ X lo hi) {σ : MSt} {a0 : Int32} {out_ : MSt} (hd : dX4_sign σ a0 = some out_) : Met l yX4_sign (ws_ yX4_sign cX4_sign 2 none) ({ frames := 2, cells := 0, slots := 0, locals := 41 }) (mP X σ [.ref X.1.1, .int a0]) (mQv X out_ (mA lo hi)) 0 0 (mA lo hi) := by
  refine Met.ofW (cc := cX4_sign) (maxL := 2) (ret := none) (by decide) rfl ?_
  intro p_ e_ s_ m_ args_ below_ meth_ c_ s₁_ B hml hv
  obtain ⟨rfl, hW, hK⟩ := hv
  have hx := B.exec
  have hb := B.bytes
  have hr := B.returns
  have hts := atoms_spec (ws := (ws_ yX4_sign cX4_sign 2 none)) B.pre
  have hts : ∀ w ∈ lw_all, w.before _ s_ = true := fun w h => hts w (List.mem_cons_of_mem _ h)
  have hown : s_.vm.findClass RX4 = some m_.cls := findClass_of_methodNamed B.named
  have hlocks := B.notSynchronized
  have hS : va_S (mA lo hi) s_.heap s_.heap [] := va_S.rf
  have hl := lv_entry ([.ref X.1.1, .int a0]) (n := 2) (Nat.le_of_ble_eq_true rfl)
  rw [lg_entry_eq]
  generalize (lg_sl ([.ref X.1.1, .int a0]) ++ List.replicate (2 - (lg_sl ([.ref X.1.1, .int a0])).length) Slot.unset).toArray = ls at hl ⊢
  have hl : lv_has ls 2 [(0, .ref X.1.1), (1, .int a0)] := hl
  unfold dX4_sign at hd
  refine lv_aload_n (pc := 0) hx hb dX4_sign_0 rfl (lv_at hl 0 rfl) ?_
  refine mr_get (pc := 1) (k := 5) (v := .int ((σ.1 5))) hx hb hts hown hK hW (by decide) rfl q1534 dX4_sign_1 ?_
  refine lv_if_eq (pc := 4) (tgt := 8) hx hb dX4_sign_4 (by decide) (fun c1 => ?_) (fun c1 => ?_)
  · have hd := wt_it hd c1
    refine lv_aload_n (pc := 8) hx hb dX4_sign_8 rfl (lv_at hl 0 rfl) ?_
    obtain ⟨w2, hc3, hd⟩ := wt_bd_o hd
    refine kX4_blanks (pc := 9) hx hb hml hown hts hK hJ hW hS hc3 hl.1 (Nat.le_of_ble_eq_true rfl) ⟨Nat.le_of_ble_eq_true rfl, Nat.le_of_ble_eq_true rfl⟩ ⟨Nat.le_refl _, Nat.le_refl _⟩ dX4_sign_9 (fun H locs hW hS => ?_)
    refine lv_aload_n (pc := 12) hx hb dX4_sign_12 rfl (lv_at hl 0 rfl) ?_
    refine lv_aload_n (pc := 13) hx hb dX4_sign_13 rfl (lv_at hl 0 rfl) ?_
    refine mr_get (pc := 14) (k := 4) (v := .int ((w2.1 4))) hx hb hts hown hK hW (by decide) rfl q1533 dX4_sign_14 ?_
    obtain ⟨w4, hc5, hd⟩ := wt_bd_o hd
    refine kX4_byteAt (pc := 17) hx hb hml hown hts hK hJ hW hS hc5 hl.1 (Nat.le_of_ble_eq_true rfl) ⟨Nat.le_of_ble_eq_true rfl, Nat.le_of_ble_eq_true rfl⟩ ⟨Nat.le_refl _, Nat.le_refl _⟩ dX4_sign_17 (fun H locs hW hS => ?_)
    refine lv_iload_n (pc := 20) hx hb dX4_sign_20 rfl (lv_at hl 1 rfl) ?_
    refine lv_icmp_ne (pc := 21) (tgt := 37) hx hb dX4_sign_21 (by decide) (fun c6 => ?_) (fun c6 => ?_)
    · have hd := wt_if hd c6
      refine lv_aload_n (pc := 37) hx hb dX4_sign_37 rfl (lv_at hl 0 rfl) ?_
      refine lv_iconst (pc := 38) (v := 1) hx hb dX4_sign_38 (by decide) ?_
      refine lv_aload_n (pc := 39) hx hb dX4_sign_39 rfl (lv_at hl 0 rfl) ?_
      refine mr_get (pc := 40) (k := 4) (v := .int ((w2.1 4))) hx hb hts hown hK hW (by decide) rfl q1533 dX4_sign_40 ?_
      obtain ⟨w7, hc8, hd⟩ := wt_bd_o hd
      refine kX4_wrong (pc := 43) hx hb hml hown hts hK hJ hW hS hc8 hl.1 (Nat.le_of_ble_eq_true rfl) ⟨Nat.le_of_ble_eq_true rfl, Nat.le_of_ble_eq_true rfl⟩ ⟨Nat.le_refl _, Nat.le_refl _⟩ dX4_sign_43 (fun H locs hW hS => ?_)
      exact mr_vret hx hb hr hlocks (Option.some.inj hd) hW hK hS dX4_sign_46
    · have hd := wt_it hd c6
      refine lv_aload_n (pc := 24) hx hb dX4_sign_24 rfl (lv_at hl 0 rfl) ?_
      refine lv_dup (pc := 25) hx hb dX4_sign_25 rfl ?_
      refine mr_get (pc := 26) (k := 4) (v := .int ((w2.1 4))) hx hb hts hown hK hW (by decide) rfl q1533 dX4_sign_26 ?_
      refine lv_iconst (pc := 29) (v := 1) hx hb dX4_sign_29 (by decide) ?_
      refine lv_iadd (pc := 30) hx hb dX4_sign_30 ?_
      obtain ⟨σ9, eσ9, hd⟩ := wt_lt_o hd
      refine mr_put (pc := 31) (k := 4) hx hb hts hown hK hW hJ hS (by decide) rfl eσ9 q1533 dX4_sign_31 (fun H locs hW hS => ?_)
      refine lv_goto (pc := 34) (tgt := 46) hx hb dX4_sign_34 (by decide) ?_
      exact mr_vret hx hb hr hlocks (Option.some.inj hd) hW hK hS dX4_sign_46
  · have hd := wt_if hd c1
    exact mr_vret hx hb hr hlocks (Option.some.inj hd) hW hK hS dX4_sign_7
theorem kX4_sign {p : Program} {l : Launch} {e : Env} {R : Room} {s : State} {m : MethodId} {args : Array Value} {below : List Frame} {meth : Method} {c : Code} {H : Heap} {locs : List Loc} {cells slots : Nat} {Q : State → Prop} {cc : ByteArray} {pc : Nat} {ls : Array Slot} {rest : List Value} {H0 : Heap} {nL : Nat} {X : MPar} {lo hi : Nat} {σ : MSt} {a0 : Int32} {out_ : MSt} (hx : p.tables.exec = Jvm.exec) (hb : c.code = cc) (hml : c.maxLocals = nL) (hown : s.vm.findClass RX4 = some m.cls) (hts : ∀ w ∈ lw_all, w.before args s = true) (hK : mK X s) (hJ : mJ X lo hi) (hW : mW X σ H) (hS : va_S (mA lo hi) H0 H locs) (hd : dX4_sign σ a0 = some out_) (hsz : ls.size = nL) (hrm : (rest.map fun v => v.category).sum ≤ 8) (hR : 3 ≤ R.frames ∧ 62 ≤ R.locals) (hcs : cells ≤ R.cells ∧ slots ≤ R.slots) (hdg : decode cc pc = .ok (.invokevirtual 157, 3)) (kk : ∀ (H1 : Heap) (locs1 : List Loc), mW X out_ H1 → va_S (mA lo hi) H0 H1 locs1 → W p l e R s m args below meth c H1 locs1 cells slots Q (F0 m (pc + 3) ls (rest))) : W p l e R s m args below meth c H locs cells slots Q (F0 m pc ls (.int a0 :: .ref X.1.1 :: rest)) := by
  refine va_callv (va_runV (As := [.int a0]) (rest := rest) ⟨hx, hb, hml, hown, hts⟩ (wX4_sign l hJ hd) (cwV 1 hts (lw_V q1746 q1748 qs36 q88 q1749) rfl rfl rfl (by decide +kernel) hR) (mr_pre hK hW) rfl rfl hsz rfl (lv_room hrm) hdg hcs) hS (fun _ _ h => h) (fun _ h => h) (fun u t H1 locs1 ht hvm hp hB hz hk hS1 => ?_)
  have hW1 : mW X out_ t.heap := hB.1
  rw [ht] at hW1
  exact kk H1 locs1 hW1 hS1
noncomputable def dX4_clause (σ : MSt)  : Option (MSt) :=
  wt_bd (dX4_clauseHere σ) fun w1 => wt_bd (if w1.1 = (-1 : Int32) then (wt_bd (dX4_wrong w1.2 (1 : Int32) (w1.2.1 4)) fun w11 => some (w11)) else (if (w1.2.1 16) = (24 : Int32) then (wt_bd (dX4_wrong w1.2 (3 : Int32) (w1.2.1 4)) fun w9 => some (w9)) else (some (w1.2)))) fun w3 => if (w3.1 5) = 0 then (wt_bd (dX4_skipWord w3) fun w14 => wt_bd (if w1.1 = 0 then (wt_bd (dX4_number w14 (0 : Int32) (7 : Int32) (-1 : Int32)) fun w21 => some (w21.1, w21.2)) else (some ((0 : Int32), w14))) fun w16 => wt_bd (if w1.1 < (2 : Int32) then (some (.inl ())) else (if w1.1 ≤ (4 : Int32) then (wt_bd (if w1.1 = (5 : Int32) then (wt_bd (dX4_number w16.2 (0 : Int32) (9 : Int32) (0 : Int32)) fun w49 => some (w49.1, w49.2)) else (wt_bd (if w1.1 = (4 : Int32) then (some (1 : Int32)) else (some (0 : Int32))) fun w34 => wt_bd (if w1.1 = 0 then (some (200 : Int32)) else (if w1.1 = (3 : Int32) then (some (8 : Int32)) else (if w1.1 = (4 : Int32) then (some (15 : Int32)) else (if w1.1 = (6 : Int32) then (some (20 : Int32)) else (some (16 : Int32)))))) fun w39 => wt_bd (dX4_number w16.2 w34 w39 (-1 : Int32)) fun w47 => some (w47.1, w47.2))) fun w29 => wt_bd (dX4_sign w29.2 (59 : Int32)) fun w51 => wt_lt (m_sF w51 16 ((w51.1 16) + (1 : Int32))) fun σ53 => if (σ53.1 5) = 0 then (wt_bd (if w1.1 = 0 then (wt_ck (vp_in w16.1 8) <| wt_ck (vp_in (0 : Int32) 10) <| wt_lt (m_sG σ53 20 (w16.1.toNatClampNeg) (0 : Int32).toNatClampNeg w29.1) fun σ62 => some (σ62)) else (some (σ53))) fun w55 => wt_bd (if w1.1 = (1 : Int32) then (wt_ck (vp_in (0 : Int32) 10) <| wt_lt (m_sA w55 21 (0 : Int32).toNatClampNeg w29.1) fun σ69 => some (σ69)) else (some (w55))) fun w63 => wt_bd (if w1.1 = (2 : Int32) then (wt_lt (m_sF w63 17 w29.1) fun σ75 => some (σ75)) else (some (w63))) fun w70 => wt_bd (if w1.1 = (3 : Int32) then (wt_lt (m_sF w70 18 w29.1) fun σ81 => some (σ81)) else (some (w70))) fun w76 => wt_bd (if w1.1 = (4 : Int32) then (wt_lt (m_sF w76 19 w29.1) fun σ87 => some (σ87)) else (some (w76))) fun w82 => wt_bd (if w1.1 = (5 : Int32) then (wt_ck (vp_in (0 : Int32) 10) <| wt_ck (vp_in (0 : Int32) 10) <| wt_lt (m_sA w82 23 (0 : Int32).toNatClampNeg ((w82.2.1 23 (0 : Int32).toNatClampNeg) ||| ((1 : Int32) <<< (w29.1 &&& 31)))) fun σ95 => wt_ck (vp_in w29.1 10) <| wt_ck (vp_in w29.1 10) <| wt_lt (m_sA σ95 23 w29.1.toNatClampNeg ((σ95.2.1 23 w29.1.toNatClampNeg) ||| ((1 : Int32) <<< ((0 : Int32) &&& 31)))) fun σ98 => some (σ98)) else (some (w82))) fun w88 => if w1.1 = (6 : Int32) then (wt_ck (vp_in (0 : Int32) 10) <| wt_lt (m_sA w88 22 (0 : Int32).toNatClampNeg w29.1) fun σ101 => some (.inr (σ101))) else (some (.inr (w88)))) else (some (.inr (σ53)))) else (some (.inl ())))) fun w23 => wt_rs w23 (fun w23 => wt_bd (dX4_number w16.2 (0 : Int32) (9 : Int32) (-1 : Int32)) fun w102 => wt_bd (if w1.1 = (5 : Int32) then (wt_bd (dX4_number w102.2 (0 : Int32) (9 : Int32) w102.1) fun w124 => some (w124.1, w124.2)) else (wt_bd (if w1.1 = (4 : Int32) then (some (1 : Int32)) else (some (0 : Int32))) fun w109 => wt_bd (if w1.1 = 0 then (some (200 : Int32)) else (if w1.1 = (3 : Int32) then (some (8 : Int32)) else (if w1.1 = (4 : Int32) then (some (15 : Int32)) else (if w1.1 = (6 : Int32) then (some (20 : Int32)) else (some (16 : Int32)))))) fun w114 => wt_bd (dX4_number w102.2 w109 w114 (-1 : Int32)) fun w122 => some (w122.1, w122.2))) fun w104 => wt_bd (dX4_sign w104.2 (59 : Int32)) fun w126 => wt_lt (m_sF w126 16 ((w126.1 16) + (1 : Int32))) fun σ128 => if (σ128.1 5) = 0 then (wt_bd (if w1.1 = 0 then (wt_ck (vp_in w16.1 8) <| wt_ck (vp_in w102.1 10) <| wt_lt (m_sG σ128 20 (w16.1.toNatClampNeg) w102.1.toNatClampNeg w104.1) fun σ137 => some (σ137)) else (some (σ128))) fun w130 => wt_bd (if w1.1 = (1 : Int32) then (wt_ck (vp_in w102.1 10) <| wt_lt (m_sA w130 21 w102.1.toNatClampNeg w104.1) fun σ144 => some (σ144)) else (some (w130))) fun w138 => wt_bd (if w1.1 = (2 : Int32) then (wt_lt (m_sF w138 17 w104.1) fun σ150 => some (σ150)) else (some (w138))) fun w145 => wt_bd (if w1.1 = (3 : Int32) then (wt_lt (m_sF w145 18 w104.1) fun σ156 => some (σ156)) else (some (w145))) fun w151 => wt_bd (if w1.1 = (4 : Int32) then (wt_lt (m_sF w151 19 w104.1) fun σ162 => some (σ162)) else (some (w151))) fun w157 => wt_bd (if w1.1 = (5 : Int32) then (wt_ck (vp_in w102.1 10) <| wt_ck (vp_in w102.1 10) <| wt_lt (m_sA w157 23 w102.1.toNatClampNeg ((w157.2.1 23 w102.1.toNatClampNeg) ||| ((1 : Int32) <<< (w104.1 &&& 31)))) fun σ170 => wt_ck (vp_in w104.1 10) <| wt_ck (vp_in w104.1 10) <| wt_lt (m_sA σ170 23 w104.1.toNatClampNeg ((σ170.2.1 23 w104.1.toNatClampNeg) ||| ((1 : Int32) <<< (w102.1 &&& 31)))) fun σ173 => some (σ173)) else (some (w157))) fun w163 => if w1.1 = (6 : Int32) then (wt_ck (vp_in w102.1 10) <| wt_lt (m_sA w163 22 w102.1.toNatClampNeg w104.1) fun σ176 => some σ176) else (some w163)) else (some σ128)) (fun z_ => some z_)) else (some w3)
set_option maxHeartbeats 4000000 in
theorem wX4_clause (l : Launch) {X : MPar} {lo hi : Nat} (hJ : mJ X lo hi) {σ : MSt}  {out_ : MSt} (hd : dX4_clause σ = some out_) : Met l yX4_clause (ws_ yX4_clause cX4_clause 5 none) ({ frames := 5, cells := 0, slots := 0, locals := 109 }) (mP X σ [.ref X.1.1]) (mQv X out_ (mA lo hi)) 0 0 (mA lo hi) := by
  refine Met.ofW (cc := cX4_clause) (maxL := 5) (ret := none) (by decide) rfl ?_
  intro p_ e_ s_ m_ args_ below_ meth_ c_ s₁_ B hml hv
  obtain ⟨rfl, hW, hK⟩ := hv
  have hx := B.exec
  have hb := B.bytes
  have hr := B.returns
  have hts := atoms_spec (ws := (ws_ yX4_clause cX4_clause 5 none)) B.pre
  have hts : ∀ w ∈ lw_all, w.before _ s_ = true := fun w h => hts w (List.mem_cons_of_mem _ h)
  have hown : s_.vm.findClass RX4 = some m_.cls := findClass_of_methodNamed B.named
  have hlocks := B.notSynchronized
  have hS : va_S (mA lo hi) s_.heap s_.heap [] := va_S.rf
  have hl := lv_entry ([.ref X.1.1]) (n := 5) (Nat.le_of_ble_eq_true rfl)
  rw [lg_entry_eq]
  generalize (lg_sl ([.ref X.1.1]) ++ List.replicate (5 - (lg_sl ([.ref X.1.1])).length) Slot.unset).toArray = ls at hl ⊢
  have hl : lv_has ls 5 [(0, .ref X.1.1)] := hl
  unfold dX4_clause at hd
  refine lv_aload_n (pc := 0) hx hb dX4_clause_0 rfl (lv_at hl 0 rfl) ?_
  obtain ⟨w1, hc2, hd⟩ := wt_bd_o hd
  refine kX4_clauseHere (pc := 1) hx hb hml hown hts hK hJ hW hS hc2 hl.1 (Nat.le_of_ble_eq_true rfl) ⟨Nat.le_of_ble_eq_true rfl, Nat.le_of_ble_eq_true rfl⟩ ⟨Nat.le_refl _, Nat.le_refl _⟩ dX4_clause_1 (fun H locs hW hS => ?_)
  refine lv_istore_n (pc := 4) (lv' := [(1, .int w1.1), (0, .ref X.1.1)]) hx hb dX4_clause_4 rfl hl (by decide) rfl (fun ls hl => ?_)
  refine lv_iload_n (pc := 5) hx hb dX4_clause_5 rfl (lv_at hl 0 rfl) ?_
  refine lv_iconst (pc := 6) (v := -1) hx hb dX4_clause_6 (by decide) ?_
  obtain ⟨w3, hj4, hq5⟩ := wt_bd_o hd
  have hX6 : ∀ w3_ : MSt, w3_ = w3 → ∀ (H : Heap) (locs : List Loc) (ls : Array Slot), mW X w3_ H → va_S (mA lo hi) s_.heap H locs → lv_has ls 5 [(0, .ref X.1.1), (1, .int w1.1)] → W p_ l e_ (headSpec (ws_ yX4_clause cX4_clause 5 none) ({ frames := 5, cells := 0, slots := 0, locals := 109 })).room s_ m_ ([.ref X.1.1] : List Value).toArray below_ meth_ c_ H locs 0 0 (MQ below_ (mQv X out_ (mA lo hi)) ([.ref X.1.1] : List Value).toArray s_ 0 0 (mA lo hi)) (F0 m_ 40 ls []) := by
    intro w3_ hw_
    have hd := hq5
    subst hw_
    clear hj4 hq5
    intro H locs ls hW hS hl
    refine lv_aload_n (pc := 40) hx hb dX4_clause_40 rfl (lv_at hl 0 rfl) ?_
    refine mr_get (pc := 41) (k := 5) (v := .int ((w3_.1 5))) hx hb hts hown hK hW (by decide) rfl q1534 dX4_clause_41 ?_
    refine lv_if_eq (pc := 44) (tgt := 48) hx hb dX4_clause_44 (by decide) (fun c13 => ?_) (fun c13 => ?_)
    · have hd := wt_it hd c13
      refine lv_aload_n (pc := 48) hx hb dX4_clause_48 rfl (lv_at hl 0 rfl) ?_
      obtain ⟨w14, hc15, hd⟩ := wt_bd_o hd
      refine kX4_skipWord (pc := 49) hx hb hml hown hts hK hJ hW hS hc15 hl.1 (Nat.le_of_ble_eq_true rfl) ⟨Nat.le_of_ble_eq_true rfl, Nat.le_of_ble_eq_true rfl⟩ ⟨Nat.le_refl _, Nat.le_refl _⟩ dX4_clause_49 (fun H locs hW hS => ?_)
      refine lv_iload_n (pc := 52) hx hb dX4_clause_52 rfl (lv_at hl 1 rfl) ?_
      obtain ⟨w16, hj17, hq18⟩ := wt_bd_o hd
      have hX19 : ∀ w16_ : Int32 × MSt, w16_ = w16 → ∀ (H : Heap) (locs : List Loc) (ls : Array Slot), mW X w16_.2 H → va_S (mA lo hi) s_.heap H locs → lv_has ls 5 [(0, .ref X.1.1), (1, .int w1.1)] → W p_ l e_ (headSpec (ws_ yX4_clause cX4_clause 5 none) ({ frames := 5, cells := 0, slots := 0, locals := 109 })).room s_ m_ ([.ref X.1.1] : List Value).toArray below_ meth_ c_ H locs 0 0 (MQ below_ (mQv X out_ (mA lo hi)) ([.ref X.1.1] : List Value).toArray s_ 0 0 (mA lo hi)) (F0 m_ 68 ls [.int w16_.1]) := by
        intro w16_ hw_
        have hd := hq18
        subst hw_
        clear hj17 hq18
        intro H locs ls hW hS hl
        refine lv_istore_n (pc := 68) (lv' := [(2, .int w16_.1), (0, .ref X.1.1), (1, .int w1.1)]) hx hb dX4_clause_68 rfl hl (by decide) rfl (fun ls hl => ?_)
        refine lv_iload_n (pc := 69) hx hb dX4_clause_69 rfl (lv_at hl 2 rfl) ?_
        refine lv_iconst (pc := 70) (v := 2) hx hb dX4_clause_70 (by decide) ?_
        obtain ⟨w23, hj24, hq25⟩ := wt_bd_o hd
        have hX26 : ∀ w23_ : Unit, (Sum.inl w23_ : Unit ⊕ _) = w23 → ∀ (H : Heap) (locs : List Loc) (ls : Array Slot), mW X w16_.2 H → va_S (mA lo hi) s_.heap H locs → lv_has ls 5 [(0, .ref X.1.1), (1, .int w1.1), (2, .int w16_.1)] → W p_ l e_ (headSpec (ws_ yX4_clause cX4_clause 5 none) ({ frames := 5, cells := 0, slots := 0, locals := 109 })).room s_ m_ ([.ref X.1.1] : List Value).toArray below_ meth_ c_ H locs 0 0 (MQ below_ (mQv X out_ (mA lo hi)) ([.ref X.1.1] : List Value).toArray s_ 0 0 (mA lo hi)) (F0 m_ 79 ls []) := by
          intro w23_ hw_
          have hd := wt_rs_l hw_ hq25
          clear hj24 hq25
          intro H locs ls hW hS hl
          refine lv_aload_n (pc := 79) hx hb dX4_clause_79 rfl (lv_at hl 0 rfl) ?_
          refine lv_iconst (pc := 80) (v := 0) hx hb dX4_clause_80 (by decide) ?_
          refine lv_bipush (pc := 81) (v := 9) hx hb dX4_clause_81 (by decide) ?_
          refine lv_iconst (pc := 83) (v := -1) hx hb dX4_clause_83 (by decide) ?_
          obtain ⟨w102, hc103, hd⟩ := wt_bd_o hd
          refine kX4_number (pc := 84) hx hb hml hown hts hK hJ hW hS hc103 hl.1 (Nat.le_of_ble_eq_true rfl) ⟨Nat.le_of_ble_eq_true rfl, Nat.le_of_ble_eq_true rfl⟩ ⟨Nat.le_refl _, Nat.le_refl _⟩ dX4_clause_84 (fun H locs hW hS => ?_)
          refine lv_goto (pc := 87) (tgt := 91) hx hb dX4_clause_87 (by decide) ?_
          refine lv_istore_n (pc := 91) (lv' := [(3, .int w102.1), (0, .ref X.1.1), (1, .int w1.1), (2, .int w16_.1)]) hx hb dX4_clause_91 rfl hl (by decide) rfl (fun ls hl => ?_)
          refine lv_iload_n (pc := 92) hx hb dX4_clause_92 rfl (lv_at hl 2 rfl) ?_
          refine lv_iconst (pc := 93) (v := 5) hx hb dX4_clause_93 (by decide) ?_
          obtain ⟨w104, hj105, hq106⟩ := wt_bd_o hd
          have hX107 : ∀ w104_ : Int32 × MSt, w104_ = w104 → ∀ (H : Heap) (locs : List Loc) (ls : Array Slot), mW X w104_.2 H → va_S (mA lo hi) s_.heap H locs → lv_has ls 5 [(0, .ref X.1.1), (1, .int w1.1), (2, .int w16_.1), (3, .int w102.1)] → W p_ l e_ (headSpec (ws_ yX4_clause cX4_clause 5 none) ({ frames := 5, cells := 0, slots := 0, locals := 109 })).room s_ m_ ([.ref X.1.1] : List Value).toArray below_ meth_ c_ H locs 0 0 (MQ below_ (mQv X out_ (mA lo hi)) ([.ref X.1.1] : List Value).toArray s_ 0 0 (mA lo hi)) (F0 m_ 166 ls [.int w104_.1]) := by
            intro w104_ hw_
            have hd := hq106
            subst hw_
            clear hj105 hq106
            intro H locs ls hW hS hl
            refine lv_istore (pc := 166) (lv' := [(4, .int w104_.1), (0, .ref X.1.1), (1, .int w1.1), (2, .int w16_.1), (3, .int w102.1)]) hx hb dX4_clause_166 hl (by decide) rfl (fun ls hl => ?_)
            refine lv_aload_n (pc := 168) hx hb dX4_clause_168 rfl (lv_at hl 1 rfl) ?_
            refine lv_bipush (pc := 169) (v := 59) hx hb dX4_clause_169 (by decide) ?_
            obtain ⟨w126, hc127, hd⟩ := wt_bd_o hd
            refine kX4_sign (pc := 171) hx hb hml hown hts hK hJ hW hS hc127 hl.1 (Nat.le_of_ble_eq_true rfl) ⟨Nat.le_of_ble_eq_true rfl, Nat.le_of_ble_eq_true rfl⟩ ⟨Nat.le_refl _, Nat.le_refl _⟩ dX4_clause_171 (fun H locs hW hS => ?_)
            refine lv_aload_n (pc := 174) hx hb dX4_clause_174 rfl (lv_at hl 1 rfl) ?_
            refine lv_dup (pc := 175) hx hb dX4_clause_175 rfl ?_
            refine mr_get (pc := 176) (k := 16) (v := .int ((w126.1 16))) hx hb hts hown hK hW (by decide) rfl q1545 dX4_clause_176 ?_
            refine lv_iconst (pc := 179) (v := 1) hx hb dX4_clause_179 (by decide) ?_
            refine lv_iadd (pc := 180) hx hb dX4_clause_180 ?_
            obtain ⟨σ128, eσ128, hd⟩ := wt_lt_o hd
            refine mr_put (pc := 181) (k := 16) hx hb hts hown hK hW hJ hS (by decide) rfl eσ128 q1545 dX4_clause_181 (fun H locs hW hS => ?_)
            refine lv_aload_n (pc := 184) hx hb dX4_clause_184 rfl (lv_at hl 1 rfl) ?_
            refine mr_get (pc := 185) (k := 5) (v := .int ((σ128.1 5))) hx hb hts hown hK hW (by decide) rfl q1534 dX4_clause_185 ?_
            refine lv_if_eq (pc := 188) (tgt := 192) hx hb dX4_clause_188 (by decide) (fun c129 => ?_) (fun c129 => ?_)
            · have hd := wt_it hd c129
              refine lv_iload_n (pc := 192) hx hb dX4_clause_192 rfl (lv_at hl 2 rfl) ?_
              obtain ⟨w130, hj131, hq132⟩ := wt_bd_o hd
              have hX133 : ∀ w130_ : MSt, w130_ = w130 → ∀ (H : Heap) (locs : List Loc) (ls : Array Slot), mW X w130_ H → va_S (mA lo hi) s_.heap H locs → lv_has ls 5 [(0, .ref X.1.1), (1, .int w1.1), (3, .int w102.1), (4, .int w104_.1)] → W p_ l e_ (headSpec (ws_ yX4_clause cX4_clause 5 none) ({ frames := 5, cells := 0, slots := 0, locals := 109 })).room s_ m_ ([.ref X.1.1] : List Value).toArray below_ meth_ c_ H locs 0 0 (MQ below_ (mQv X out_ (mA lo hi)) ([.ref X.1.1] : List Value).toArray s_ 0 0 (mA lo hi)) (F0 m_ 206 ls []) := by
                intro w130_ hw_
                have hd := hq132
                subst hw_
                clear hj131 hq132
                intro H locs ls hW hS hl
                refine lv_iload_n (pc := 206) hx hb dX4_clause_206 rfl (lv_at hl 1 rfl) ?_
                refine lv_iconst (pc := 207) (v := 1) hx hb dX4_clause_207 (by decide) ?_
                obtain ⟨w138, hj139, hq140⟩ := wt_bd_o hd
                have hX141 : ∀ w138_ : MSt, w138_ = w138 → ∀ (H : Heap) (locs : List Loc) (ls : Array Slot), mW X w138_ H → va_S (mA lo hi) s_.heap H locs → lv_has ls 5 [(0, .ref X.1.1), (1, .int w1.1), (3, .int w102.1), (4, .int w104_.1)] → W p_ l e_ (headSpec (ws_ yX4_clause cX4_clause 5 none) ({ frames := 5, cells := 0, slots := 0, locals := 109 })).room s_ m_ ([.ref X.1.1] : List Value).toArray below_ meth_ c_ H locs 0 0 (MQ below_ (mQv X out_ (mA lo hi)) ([.ref X.1.1] : List Value).toArray s_ 0 0 (mA lo hi)) (F0 m_ 219 ls []) := by
                  intro w138_ hw_
                  have hd := hq140
                  subst hw_
                  clear hj139 hq140
                  intro H locs ls hW hS hl
                  refine lv_iload_n (pc := 219) hx hb dX4_clause_219 rfl (lv_at hl 1 rfl) ?_
                  refine lv_iconst (pc := 220) (v := 2) hx hb dX4_clause_220 (by decide) ?_
                  obtain ⟨w145, hj146, hq147⟩ := wt_bd_o hd
                  have hX148 : ∀ w145_ : MSt, w145_ = w145 → ∀ (H : Heap) (locs : List Loc) (ls : Array Slot), mW X w145_ H → va_S (mA lo hi) s_.heap H locs → lv_has ls 5 [(0, .ref X.1.1), (1, .int w1.1), (3, .int w102.1), (4, .int w104_.1)] → W p_ l e_ (headSpec (ws_ yX4_clause cX4_clause 5 none) ({ frames := 5, cells := 0, slots := 0, locals := 109 })).room s_ m_ ([.ref X.1.1] : List Value).toArray below_ meth_ c_ H locs 0 0 (MQ below_ (mQv X out_ (mA lo hi)) ([.ref X.1.1] : List Value).toArray s_ 0 0 (mA lo hi)) (F0 m_ 230 ls []) := by
                    intro w145_ hw_
                    have hd := hq147
                    subst hw_
                    clear hj146 hq147
                    intro H locs ls hW hS hl
                    refine lv_iload_n (pc := 230) hx hb dX4_clause_230 rfl (lv_at hl 1 rfl) ?_
                    refine lv_iconst (pc := 231) (v := 3) hx hb dX4_clause_231 (by decide) ?_
                    obtain ⟨w151, hj152, hq153⟩ := wt_bd_o hd
                    have hX154 : ∀ w151_ : MSt, w151_ = w151 → ∀ (H : Heap) (locs : List Loc) (ls : Array Slot), mW X w151_ H → va_S (mA lo hi) s_.heap H locs → lv_has ls 5 [(0, .ref X.1.1), (1, .int w1.1), (3, .int w102.1), (4, .int w104_.1)] → W p_ l e_ (headSpec (ws_ yX4_clause cX4_clause 5 none) ({ frames := 5, cells := 0, slots := 0, locals := 109 })).room s_ m_ ([.ref X.1.1] : List Value).toArray below_ meth_ c_ H locs 0 0 (MQ below_ (mQv X out_ (mA lo hi)) ([.ref X.1.1] : List Value).toArray s_ 0 0 (mA lo hi)) (F0 m_ 241 ls []) := by
                      intro w151_ hw_
                      have hd := hq153
                      subst hw_
                      clear hj152 hq153
                      intro H locs ls hW hS hl
                      refine lv_iload_n (pc := 241) hx hb dX4_clause_241 rfl (lv_at hl 1 rfl) ?_
                      refine lv_iconst (pc := 242) (v := 4) hx hb dX4_clause_242 (by decide) ?_
                      obtain ⟨w157, hj158, hq159⟩ := wt_bd_o hd
                      have hX160 : ∀ w157_ : MSt, w157_ = w157 → ∀ (H : Heap) (locs : List Loc) (ls : Array Slot), mW X w157_ H → va_S (mA lo hi) s_.heap H locs → lv_has ls 5 [(0, .ref X.1.1), (1, .int w1.1), (3, .int w102.1), (4, .int w104_.1)] → W p_ l e_ (headSpec (ws_ yX4_clause cX4_clause 5 none) ({ frames := 5, cells := 0, slots := 0, locals := 109 })).room s_ m_ ([.ref X.1.1] : List Value).toArray below_ meth_ c_ H locs 0 0 (MQ below_ (mQv X out_ (mA lo hi)) ([.ref X.1.1] : List Value).toArray s_ 0 0 (mA lo hi)) (F0 m_ 252 ls []) := by
                        intro w157_ hw_
                        have hd := hq159
                        subst hw_
                        clear hj158 hq159
                        intro H locs ls hW hS hl
                        refine lv_iload_n (pc := 252) hx hb dX4_clause_252 rfl (lv_at hl 1 rfl) ?_
                        refine lv_iconst (pc := 253) (v := 5) hx hb dX4_clause_253 (by decide) ?_
                        obtain ⟨w163, hj164, hq165⟩ := wt_bd_o hd
                        have hX166 : ∀ w163_ : MSt, w163_ = w163 → ∀ (H : Heap) (locs : List Loc) (ls : Array Slot), mW X w163_ H → va_S (mA lo hi) s_.heap H locs → lv_has ls 5 [(0, .ref X.1.1), (1, .int w1.1), (3, .int w102.1), (4, .int w104_.1)] → W p_ l e_ (headSpec (ws_ yX4_clause cX4_clause 5 none) ({ frames := 5, cells := 0, slots := 0, locals := 109 })).room s_ m_ ([.ref X.1.1] : List Value).toArray below_ meth_ c_ H locs 0 0 (MQ below_ (mQv X out_ (mA lo hi)) ([.ref X.1.1] : List Value).toArray s_ 0 0 (mA lo hi)) (F0 m_ 283 ls []) := by
                          intro w163_ hw_
                          have hd := hq165
                          subst hw_
                          clear hj164 hq165
                          intro H locs ls hW hS hl
                          refine lv_iload_n (pc := 283) hx hb dX4_clause_283 rfl (lv_at hl 1 rfl) ?_
                          refine lv_bipush (pc := 284) (v := 6) hx hb dX4_clause_284 (by decide) ?_
                          refine lv_icmp_ne (pc := 286) (tgt := 297) hx hb dX4_clause_286 (by decide) (fun c174 => ?_) (fun c174 => ?_)
                          · have hd := wt_if hd c174
                            exact mr_vret hx hb hr hlocks (Option.some.inj hd) hW hK hS dX4_clause_297
                          · have hd := wt_it hd c174
                            refine lv_aload_n (pc := 289) hx hb dX4_clause_289 rfl (lv_at hl 0 rfl) ?_
                            refine mr_get (pc := 290) (k := 22) (v := .ref (X.1.2.1 22)) hx hb hts hown hK hW (by decide) rfl q1551 dX4_clause_290 ?_
                            refine lv_iload_n (pc := 293) hx hb dX4_clause_293 rfl (lv_at hl 2 rfl) ?_
                            refine lv_iload (pc := 294) hx hb dX4_clause_294 (lv_at hl 3 rfl) ?_
                            obtain ⟨h175, hd⟩ := wt_ck_o hd
                            obtain ⟨σ176, eσ176, hd⟩ := wt_lt_o hd
                            refine mr_ast (pc := 296) (k := 22) hx hb hK hW hJ hS rfl h175 eσ176 dX4_clause_296 (fun H locs hW hS => ?_)
                            exact mr_vret hx hb hr hlocks (Option.some.inj hd) hW hK hS dX4_clause_297
                        have hd := hj164
                        refine lv_icmp_ne (pc := 254) (tgt := 283) hx hb dX4_clause_254 (by decide) (fun c167 => ?_) (fun c167 => ?_)
                        · have hd := wt_if hd c167
                          exact hX166 w157_ (Option.some.inj hd) _ _ _ hW hS hl
                        · have hd := wt_it hd c167
                          refine lv_aload_n (pc := 257) hx hb dX4_clause_257 rfl (lv_at hl 0 rfl) ?_
                          refine mr_get (pc := 258) (k := 23) (v := .ref (X.1.2.1 23)) hx hb hts hown hK hW (by decide) rfl q1552 dX4_clause_258 ?_
                          refine lv_iload_n (pc := 261) hx hb dX4_clause_261 rfl (lv_at hl 2 rfl) ?_
                          refine lv_dup2_11 (pc := 262) hx hb dX4_clause_262 rfl rfl ?_
                          obtain ⟨h168, hd⟩ := wt_ck_o hd
                          refine mr_ald (pc := 263) (k := 23) hx hb hK hW rfl h168 dX4_clause_263 ?_
                          refine lv_iconst (pc := 264) (v := 1) hx hb dX4_clause_264 (by decide) ?_
                          refine lv_iload (pc := 265) hx hb dX4_clause_265 (lv_at hl 3 rfl) ?_
                          refine lv_ishl (pc := 267) hx hb dX4_clause_267 ?_
                          refine lv_ior (pc := 268) hx hb dX4_clause_268 ?_
                          obtain ⟨h169, hd⟩ := wt_ck_o hd
                          obtain ⟨σ170, eσ170, hd⟩ := wt_lt_o hd
                          refine mr_ast (pc := 269) (k := 23) hx hb hK hW hJ hS rfl h169 eσ170 dX4_clause_269 (fun H locs hW hS => ?_)
                          refine lv_aload_n (pc := 270) hx hb dX4_clause_270 rfl (lv_at hl 0 rfl) ?_
                          refine mr_get (pc := 271) (k := 23) (v := .ref (X.1.2.1 23)) hx hb hts hown hK hW (by decide) rfl q1552 dX4_clause_271 ?_
                          refine lv_iload (pc := 274) hx hb dX4_clause_274 (lv_at hl 3 rfl) ?_
                          refine lv_dup2_11 (pc := 276) hx hb dX4_clause_276 rfl rfl ?_
                          obtain ⟨h171, hd⟩ := wt_ck_o hd
                          refine mr_ald (pc := 277) (k := 23) hx hb hK hW rfl h171 dX4_clause_277 ?_
                          refine lv_iconst (pc := 278) (v := 1) hx hb dX4_clause_278 (by decide) ?_
                          refine lv_iload_n (pc := 279) hx hb dX4_clause_279 rfl (lv_at hl 2 rfl) ?_
                          refine lv_ishl (pc := 280) hx hb dX4_clause_280 ?_
                          refine lv_ior (pc := 281) hx hb dX4_clause_281 ?_
                          obtain ⟨h172, hd⟩ := wt_ck_o hd
                          obtain ⟨σ173, eσ173, hd⟩ := wt_lt_o hd
                          refine mr_ast (pc := 282) (k := 23) hx hb hK hW hJ hS rfl h172 eσ173 dX4_clause_282 (fun H locs hW hS => ?_)
                          exact hX166 σ173 (Option.some.inj hd) _ _ _ hW hS hl
                      have hd := hj158
                      refine lv_icmp_ne (pc := 243) (tgt := 252) hx hb dX4_clause_243 (by decide) (fun c161 => ?_) (fun c161 => ?_)
                      · have hd := wt_if hd c161
                        exact hX160 w151_ (Option.some.inj hd) _ _ _ hW hS hl
                      · have hd := wt_it hd c161
                        refine lv_aload_n (pc := 246) hx hb dX4_clause_246 rfl (lv_at hl 0 rfl) ?_
                        refine lv_iload (pc := 247) hx hb dX4_clause_247 (lv_at hl 3 rfl) ?_
                        obtain ⟨σ162, eσ162, hd⟩ := wt_lt_o hd
                        refine mr_put (pc := 249) (k := 19) hx hb hts hown hK hW hJ hS (by decide) rfl eσ162 q1548 dX4_clause_249 (fun H locs hW hS => ?_)
                        exact hX160 σ162 (Option.some.inj hd) _ _ _ hW hS hl
                    have hd := hj152
                    refine lv_icmp_ne (pc := 232) (tgt := 241) hx hb dX4_clause_232 (by decide) (fun c155 => ?_) (fun c155 => ?_)
                    · have hd := wt_if hd c155
                      exact hX154 w145_ (Option.some.inj hd) _ _ _ hW hS hl
                    · have hd := wt_it hd c155
                      refine lv_aload_n (pc := 235) hx hb dX4_clause_235 rfl (lv_at hl 0 rfl) ?_
                      refine lv_iload (pc := 236) hx hb dX4_clause_236 (lv_at hl 3 rfl) ?_
                      obtain ⟨σ156, eσ156, hd⟩ := wt_lt_o hd
                      refine mr_put (pc := 238) (k := 18) hx hb hts hown hK hW hJ hS (by decide) rfl eσ156 q1547 dX4_clause_238 (fun H locs hW hS => ?_)
                      exact hX154 σ156 (Option.some.inj hd) _ _ _ hW hS hl
                  have hd := hj146
                  refine lv_icmp_ne (pc := 221) (tgt := 230) hx hb dX4_clause_221 (by decide) (fun c149 => ?_) (fun c149 => ?_)
                  · have hd := wt_if hd c149
                    exact hX148 w138_ (Option.some.inj hd) _ _ _ hW hS hl
                  · have hd := wt_it hd c149
                    refine lv_aload_n (pc := 224) hx hb dX4_clause_224 rfl (lv_at hl 0 rfl) ?_
                    refine lv_iload (pc := 225) hx hb dX4_clause_225 (lv_at hl 3 rfl) ?_
                    obtain ⟨σ150, eσ150, hd⟩ := wt_lt_o hd
                    refine mr_put (pc := 227) (k := 17) hx hb hts hown hK hW hJ hS (by decide) rfl eσ150 q1546 dX4_clause_227 (fun H locs hW hS => ?_)
                    exact hX148 σ150 (Option.some.inj hd) _ _ _ hW hS hl
                have hd := hj139
                refine lv_icmp_ne (pc := 208) (tgt := 219) hx hb dX4_clause_208 (by decide) (fun c142 => ?_) (fun c142 => ?_)
                · have hd := wt_if hd c142
                  exact hX141 w130_ (Option.some.inj hd) _ _ _ hW hS hl
                · have hd := wt_it hd c142
                  refine lv_aload_n (pc := 211) hx hb dX4_clause_211 rfl (lv_at hl 0 rfl) ?_
                  refine mr_get (pc := 212) (k := 21) (v := .ref (X.1.2.1 21)) hx hb hts hown hK hW (by decide) rfl q1550 dX4_clause_212 ?_
                  refine lv_iload_n (pc := 215) hx hb dX4_clause_215 rfl (lv_at hl 2 rfl) ?_
                  refine lv_iload (pc := 216) hx hb dX4_clause_216 (lv_at hl 3 rfl) ?_
                  obtain ⟨h143, hd⟩ := wt_ck_o hd
                  obtain ⟨σ144, eσ144, hd⟩ := wt_lt_o hd
                  refine mr_ast (pc := 218) (k := 21) hx hb hK hW hJ hS rfl h143 eσ144 dX4_clause_218 (fun H locs hW hS => ?_)
                  exact hX141 σ144 (Option.some.inj hd) _ _ _ hW hS hl
              have hd := hj131
              refine lv_if_ne (pc := 193) (tgt := 206) hx hb dX4_clause_193 (by decide) (fun c134 => ?_) (fun c134 => ?_)
              · have hd := wt_if hd c134
                exact hX133 σ128 (Option.some.inj hd) _ _ _ hW hS (lv_sub hl [1, 2, 4, 0] rfl)
              · have hd := wt_it hd c134
                refine lv_aload_n (pc := 196) hx hb dX4_clause_196 rfl (lv_at hl 1 rfl) ?_
                refine mr_get (pc := 197) (k := 20) (v := .ref (X.1.2.1 20)) hx hb hts hown hK hW (by decide) rfl q1549 dX4_clause_197 ?_
                refine lv_iload_n (pc := 200) hx hb dX4_clause_200 rfl (lv_at hl 3 rfl) ?_
                obtain ⟨h135, hd⟩ := wt_ck_o hd
                refine mr_row (pc := 201) (k := 20) hx hb hK hW rfl h135 dX4_clause_201 ?_
                refine lv_iload_n (pc := 202) hx hb dX4_clause_202 rfl (lv_at hl 4 rfl) ?_
                refine lv_iload (pc := 203) hx hb dX4_clause_203 (lv_at hl 0 rfl) ?_
                obtain ⟨h136, hd⟩ := wt_ck_o hd
                obtain ⟨σ137, eσ137, hd⟩ := wt_lt_o hd
                refine mr_gst (pc := 205) (k := 20) (i := (w16_.1.toNatClampNeg)) hx hb hK hW hJ hS (vp_lt h135) rfl h136 eσ137 dX4_clause_205 (fun H locs hW hS => ?_)
                exact hX133 σ137 (Option.some.inj hd) _ _ _ hW hS (lv_sub hl [1, 2, 4, 0] rfl)
            · have hd := wt_if hd c129
              exact mr_vret hx hb hr hlocks (Option.some.inj hd) hW hK hS dX4_clause_191
          have hd := hj105
          refine lv_icmp_ne (pc := 94) (tgt := 108) hx hb dX4_clause_94 (by decide) (fun c108 => ?_) (fun c108 => ?_)
          · have hd := wt_if hd c108
            refine lv_aload_n (pc := 108) hx hb dX4_clause_108 rfl (lv_at hl 1 rfl) ?_
            refine lv_iload_n (pc := 109) hx hb dX4_clause_109 rfl (lv_at hl 2 rfl) ?_
            refine lv_iconst (pc := 110) (v := 4) hx hb dX4_clause_110 (by decide) ?_
            obtain ⟨w109, hj110, hq111⟩ := wt_bd_o hd
            have hX112 : ∀ w109_ : Int32, w109_ = w109 → ∀ (H : Heap) (locs : List Loc) (ls : Array Slot), mW X w102.2 H → va_S (mA lo hi) s_.heap H locs → lv_has ls 5 [(0, .ref X.1.1), (1, .int w1.1), (2, .int w16_.1), (3, .int w102.1)] → W p_ l e_ (headSpec (ws_ yX4_clause cX4_clause 5 none) ({ frames := 5, cells := 0, slots := 0, locals := 109 })).room s_ m_ ([.ref X.1.1] : List Value).toArray below_ meth_ c_ H locs 0 0 (MQ below_ (mQv X out_ (mA lo hi)) ([.ref X.1.1] : List Value).toArray s_ 0 0 (mA lo hi)) (F0 m_ 119 ls [.int w109_, .ref X.1.1]) := by
              intro w109_ hw_
              have hd := hq111
              subst hw_
              clear hj110 hq111
              intro H locs ls hW hS hl
              refine lv_iload_n (pc := 119) hx hb dX4_clause_119 rfl (lv_at hl 1 rfl) ?_
              obtain ⟨w114, hj115, hq116⟩ := wt_bd_o hd
              have hX117 : ∀ w114_ : Int32, w114_ = w114 → ∀ (H : Heap) (locs : List Loc) (ls : Array Slot), mW X w102.2 H → va_S (mA lo hi) s_.heap H locs → lv_has ls 5 [(0, .ref X.1.1), (1, .int w1.1), (2, .int w16_.1), (3, .int w102.1)] → W p_ l e_ (headSpec (ws_ yX4_clause cX4_clause 5 none) ({ frames := 5, cells := 0, slots := 0, locals := 109 })).room s_ m_ ([.ref X.1.1] : List Value).toArray below_ meth_ c_ H locs 0 0 (MQ below_ (mQv X out_ (mA lo hi)) ([.ref X.1.1] : List Value).toArray s_ 0 0 (mA lo hi)) (F0 m_ 162 ls [.int w114_, .int w109_, .ref X.1.1]) := by
                intro w114_ hw_
                have hd := hq116
                subst hw_
                clear hj115 hq116
                intro H locs ls hW hS hl
                refine lv_iconst (pc := 162) (v := -1) hx hb dX4_clause_162 (by decide) ?_
                obtain ⟨w122, hc123, hd⟩ := wt_bd_o hd
                refine kX4_number (pc := 163) hx hb hml hown hts hK hJ hW hS hc123 hl.1 (Nat.le_of_ble_eq_true rfl) ⟨Nat.le_of_ble_eq_true rfl, Nat.le_of_ble_eq_true rfl⟩ ⟨Nat.le_refl _, Nat.le_refl _⟩ dX4_clause_163 (fun H locs hW hS => ?_)
                exact hX107 (w122.1, w122.2) (Option.some.inj hd) _ _ _ hW hS hl
              have hd := hj115
              refine lv_if_ne (pc := 120) (tgt := 129) hx hb dX4_clause_120 (by decide) (fun c118 => ?_) (fun c118 => ?_)
              · have hd := wt_if hd c118
                refine lv_iload_n (pc := 129) hx hb dX4_clause_129 rfl (lv_at hl 1 rfl) ?_
                refine lv_iconst (pc := 130) (v := 3) hx hb dX4_clause_130 (by decide) ?_
                refine lv_icmp_ne (pc := 131) (tgt := 139) hx hb dX4_clause_131 (by decide) (fun c119 => ?_) (fun c119 => ?_)
                · have hd := wt_if hd c119
                  refine lv_iload_n (pc := 139) hx hb dX4_clause_139 rfl (lv_at hl 1 rfl) ?_
                  refine lv_iconst (pc := 140) (v := 4) hx hb dX4_clause_140 (by decide) ?_
                  refine lv_icmp_ne (pc := 141) (tgt := 149) hx hb dX4_clause_141 (by decide) (fun c120 => ?_) (fun c120 => ?_)
                  · have hd := wt_if hd c120
                    refine lv_iload_n (pc := 149) hx hb dX4_clause_149 rfl (lv_at hl 1 rfl) ?_
                    refine lv_bipush (pc := 150) (v := 6) hx hb dX4_clause_150 (by decide) ?_
                    refine lv_icmp_ne (pc := 152) (tgt := 160) hx hb dX4_clause_152 (by decide) (fun c121 => ?_) (fun c121 => ?_)
                    · have hd := wt_if hd c121
                      refine lv_bipush (pc := 160) (v := 16) hx hb dX4_clause_160 (by decide) ?_
                      exact hX117 (16 : Int32) (Option.some.inj hd) _ _ _ hW hS hl
                    · have hd := wt_it hd c121
                      refine lv_bipush (pc := 155) (v := 20) hx hb dX4_clause_155 (by decide) ?_
                      refine lv_goto (pc := 157) (tgt := 162) hx hb dX4_clause_157 (by decide) ?_
                      exact hX117 (20 : Int32) (Option.some.inj hd) _ _ _ hW hS hl
                  · have hd := wt_it hd c120
                    refine lv_bipush (pc := 144) (v := 15) hx hb dX4_clause_144 (by decide) ?_
                    refine lv_goto (pc := 146) (tgt := 162) hx hb dX4_clause_146 (by decide) ?_
                    exact hX117 (15 : Int32) (Option.some.inj hd) _ _ _ hW hS hl
                · have hd := wt_it hd c119
                  refine lv_bipush (pc := 134) (v := 8) hx hb dX4_clause_134 (by decide) ?_
                  refine lv_goto (pc := 136) (tgt := 162) hx hb dX4_clause_136 (by decide) ?_
                  exact hX117 (8 : Int32) (Option.some.inj hd) _ _ _ hW hS hl
              · have hd := wt_it hd c118
                refine lv_sipush (pc := 123) (v := 200) hx hb dX4_clause_123 (by decide) ?_
                refine lv_goto (pc := 126) (tgt := 162) hx hb dX4_clause_126 (by decide) ?_
                exact hX117 (200 : Int32) (Option.some.inj hd) _ _ _ hW hS hl
            have hd := hj110
            refine lv_icmp_ne (pc := 111) (tgt := 118) hx hb dX4_clause_111 (by decide) (fun c113 => ?_) (fun c113 => ?_)
            · have hd := wt_if hd c113
              refine lv_iconst (pc := 118) (v := 0) hx hb dX4_clause_118 (by decide) ?_
              exact hX112 (0 : Int32) (Option.some.inj hd) _ _ _ hW hS (lv_sub hl [1, 2, 3, 0] rfl)
            · have hd := wt_it hd c113
              refine lv_iconst (pc := 114) (v := 1) hx hb dX4_clause_114 (by decide) ?_
              refine lv_goto (pc := 115) (tgt := 119) hx hb dX4_clause_115 (by decide) ?_
              exact hX112 (1 : Int32) (Option.some.inj hd) _ _ _ hW hS (lv_sub hl [1, 2, 3, 0] rfl)
          · have hd := wt_it hd c108
            refine lv_aload_n (pc := 97) hx hb dX4_clause_97 rfl (lv_at hl 1 rfl) ?_
            refine lv_iconst (pc := 98) (v := 0) hx hb dX4_clause_98 (by decide) ?_
            refine lv_bipush (pc := 99) (v := 9) hx hb dX4_clause_99 (by decide) ?_
            refine lv_iload_n (pc := 101) hx hb dX4_clause_101 rfl (lv_at hl 0 rfl) ?_
            obtain ⟨w124, hc125, hd⟩ := wt_bd_o hd
            refine kX4_number (pc := 102) hx hb hml hown hts hK hJ hW hS hc125 hl.1 (Nat.le_of_ble_eq_true rfl) ⟨Nat.le_of_ble_eq_true rfl, Nat.le_of_ble_eq_true rfl⟩ ⟨Nat.le_refl _, Nat.le_refl _⟩ dX4_clause_102 (fun H locs hW hS => ?_)
            refine lv_goto (pc := 105) (tgt := 166) hx hb dX4_clause_105 (by decide) ?_
            exact hX107 (w124.1, w124.2) (Option.some.inj hd) _ _ _ hW hS (lv_sub hl [1, 2, 3, 0] rfl)
        have hd := hj24
        refine lv_icmp_lt (pc := 71) (tgt := 79) hx hb dX4_clause_71 (by decide) (fun c27 => ?_) (fun c27 => ?_)
        · have hd := wt_it hd c27
          exact hX26 () (Option.some.inj hd) _ _ _ hW hS (lv_sub hl [1, 2, 0] rfl)
        · have hd := wt_if hd c27
          refine lv_iload_n (pc := 74) hx hb dX4_clause_74 rfl (lv_at hl 2 rfl) ?_
          refine lv_iconst (pc := 75) (v := 4) hx hb dX4_clause_75 (by decide) ?_
          refine lv_icmp_le (pc := 76) (tgt := 90) hx hb dX4_clause_76 (by decide) (fun c28 => ?_) (fun c28 => ?_)
          · have hd := wt_it hd c28
            refine lv_iconst (pc := 90) (v := 0) hx hb dX4_clause_90 (by decide) ?_
            refine lv_istore_n (pc := 91) (lv' := [(3, .int (0 : Int32)), (2, .int w16_.1), (0, .ref X.1.1), (1, .int w1.1)]) hx hb dX4_clause_91 rfl hl (by decide) rfl (fun ls hl => ?_)
            refine lv_iload_n (pc := 92) hx hb dX4_clause_92 rfl (lv_at hl 3 rfl) ?_
            refine lv_iconst (pc := 93) (v := 5) hx hb dX4_clause_93 (by decide) ?_
            obtain ⟨w29, hj30, hq31⟩ := wt_bd_o hd
            have hX32 : ∀ w29_ : Int32 × MSt, w29_ = w29 → ∀ (H : Heap) (locs : List Loc) (ls : Array Slot), mW X w29_.2 H → va_S (mA lo hi) s_.heap H locs → lv_has ls 5 [(0, .ref X.1.1), (1, .int w1.1), (2, .int w16_.1), (3, .int (0 : Int32))] → W p_ l e_ (headSpec (ws_ yX4_clause cX4_clause 5 none) ({ frames := 5, cells := 0, slots := 0, locals := 109 })).room s_ m_ ([.ref X.1.1] : List Value).toArray below_ meth_ c_ H locs 0 0 (MQ below_ (mQv X out_ (mA lo hi)) ([.ref X.1.1] : List Value).toArray s_ 0 0 (mA lo hi)) (F0 m_ 166 ls [.int w29_.1]) := by
              intro w29_ hw_
              have hd := hq31
              subst hw_
              clear hj30 hq31
              intro H locs ls hW hS hl
              refine lv_istore (pc := 166) (lv' := [(4, .int w29_.1), (0, .ref X.1.1), (1, .int w1.1), (2, .int w16_.1), (3, .int (0 : Int32))]) hx hb dX4_clause_166 hl (by decide) rfl (fun ls hl => ?_)
              refine lv_aload_n (pc := 168) hx hb dX4_clause_168 rfl (lv_at hl 1 rfl) ?_
              refine lv_bipush (pc := 169) (v := 59) hx hb dX4_clause_169 (by decide) ?_
              obtain ⟨w51, hc52, hd⟩ := wt_bd_o hd
              refine kX4_sign (pc := 171) hx hb hml hown hts hK hJ hW hS hc52 hl.1 (Nat.le_of_ble_eq_true rfl) ⟨Nat.le_of_ble_eq_true rfl, Nat.le_of_ble_eq_true rfl⟩ ⟨Nat.le_refl _, Nat.le_refl _⟩ dX4_clause_171 (fun H locs hW hS => ?_)
              refine lv_aload_n (pc := 174) hx hb dX4_clause_174 rfl (lv_at hl 1 rfl) ?_
              refine lv_dup (pc := 175) hx hb dX4_clause_175 rfl ?_
              refine mr_get (pc := 176) (k := 16) (v := .int ((w51.1 16))) hx hb hts hown hK hW (by decide) rfl q1545 dX4_clause_176 ?_
              refine lv_iconst (pc := 179) (v := 1) hx hb dX4_clause_179 (by decide) ?_
              refine lv_iadd (pc := 180) hx hb dX4_clause_180 ?_
              obtain ⟨σ53, eσ53, hd⟩ := wt_lt_o hd
              refine mr_put (pc := 181) (k := 16) hx hb hts hown hK hW hJ hS (by decide) rfl eσ53 q1545 dX4_clause_181 (fun H locs hW hS => ?_)
              refine lv_aload_n (pc := 184) hx hb dX4_clause_184 rfl (lv_at hl 1 rfl) ?_
              refine mr_get (pc := 185) (k := 5) (v := .int ((σ53.1 5))) hx hb hts hown hK hW (by decide) rfl q1534 dX4_clause_185 ?_
              refine lv_if_eq (pc := 188) (tgt := 192) hx hb dX4_clause_188 (by decide) (fun c54 => ?_) (fun c54 => ?_)
              · have hd := wt_it hd c54
                refine lv_iload_n (pc := 192) hx hb dX4_clause_192 rfl (lv_at hl 2 rfl) ?_
                obtain ⟨w55, hj56, hq57⟩ := wt_bd_o hd
                have hX58 : ∀ w55_ : MSt, w55_ = w55 → ∀ (H : Heap) (locs : List Loc) (ls : Array Slot), mW X w55_ H → va_S (mA lo hi) s_.heap H locs → lv_has ls 5 [(0, .ref X.1.1), (1, .int w1.1), (3, .int (0 : Int32)), (4, .int w29_.1)] → W p_ l e_ (headSpec (ws_ yX4_clause cX4_clause 5 none) ({ frames := 5, cells := 0, slots := 0, locals := 109 })).room s_ m_ ([.ref X.1.1] : List Value).toArray below_ meth_ c_ H locs 0 0 (MQ below_ (mQv X out_ (mA lo hi)) ([.ref X.1.1] : List Value).toArray s_ 0 0 (mA lo hi)) (F0 m_ 206 ls []) := by
                  intro w55_ hw_
                  have hd := hq57
                  subst hw_
                  clear hj56 hq57
                  intro H locs ls hW hS hl
                  refine lv_iload_n (pc := 206) hx hb dX4_clause_206 rfl (lv_at hl 1 rfl) ?_
                  refine lv_iconst (pc := 207) (v := 1) hx hb dX4_clause_207 (by decide) ?_
                  obtain ⟨w63, hj64, hq65⟩ := wt_bd_o hd
                  have hX66 : ∀ w63_ : MSt, w63_ = w63 → ∀ (H : Heap) (locs : List Loc) (ls : Array Slot), mW X w63_ H → va_S (mA lo hi) s_.heap H locs → lv_has ls 5 [(0, .ref X.1.1), (1, .int w1.1), (3, .int (0 : Int32)), (4, .int w29_.1)] → W p_ l e_ (headSpec (ws_ yX4_clause cX4_clause 5 none) ({ frames := 5, cells := 0, slots := 0, locals := 109 })).room s_ m_ ([.ref X.1.1] : List Value).toArray below_ meth_ c_ H locs 0 0 (MQ below_ (mQv X out_ (mA lo hi)) ([.ref X.1.1] : List Value).toArray s_ 0 0 (mA lo hi)) (F0 m_ 219 ls []) := by
                    intro w63_ hw_
                    have hd := hq65
                    subst hw_
                    clear hj64 hq65
                    intro H locs ls hW hS hl
                    refine lv_iload_n (pc := 219) hx hb dX4_clause_219 rfl (lv_at hl 1 rfl) ?_
                    refine lv_iconst (pc := 220) (v := 2) hx hb dX4_clause_220 (by decide) ?_
                    obtain ⟨w70, hj71, hq72⟩ := wt_bd_o hd
                    have hX73 : ∀ w70_ : MSt, w70_ = w70 → ∀ (H : Heap) (locs : List Loc) (ls : Array Slot), mW X w70_ H → va_S (mA lo hi) s_.heap H locs → lv_has ls 5 [(0, .ref X.1.1), (1, .int w1.1), (3, .int (0 : Int32)), (4, .int w29_.1)] → W p_ l e_ (headSpec (ws_ yX4_clause cX4_clause 5 none) ({ frames := 5, cells := 0, slots := 0, locals := 109 })).room s_ m_ ([.ref X.1.1] : List Value).toArray below_ meth_ c_ H locs 0 0 (MQ below_ (mQv X out_ (mA lo hi)) ([.ref X.1.1] : List Value).toArray s_ 0 0 (mA lo hi)) (F0 m_ 230 ls []) := by
                      intro w70_ hw_
                      have hd := hq72
                      subst hw_
                      clear hj71 hq72
                      intro H locs ls hW hS hl
                      refine lv_iload_n (pc := 230) hx hb dX4_clause_230 rfl (lv_at hl 1 rfl) ?_
                      refine lv_iconst (pc := 231) (v := 3) hx hb dX4_clause_231 (by decide) ?_
                      obtain ⟨w76, hj77, hq78⟩ := wt_bd_o hd
                      have hX79 : ∀ w76_ : MSt, w76_ = w76 → ∀ (H : Heap) (locs : List Loc) (ls : Array Slot), mW X w76_ H → va_S (mA lo hi) s_.heap H locs → lv_has ls 5 [(0, .ref X.1.1), (1, .int w1.1), (3, .int (0 : Int32)), (4, .int w29_.1)] → W p_ l e_ (headSpec (ws_ yX4_clause cX4_clause 5 none) ({ frames := 5, cells := 0, slots := 0, locals := 109 })).room s_ m_ ([.ref X.1.1] : List Value).toArray below_ meth_ c_ H locs 0 0 (MQ below_ (mQv X out_ (mA lo hi)) ([.ref X.1.1] : List Value).toArray s_ 0 0 (mA lo hi)) (F0 m_ 241 ls []) := by
                        intro w76_ hw_
                        have hd := hq78
                        subst hw_
                        clear hj77 hq78
                        intro H locs ls hW hS hl
                        refine lv_iload_n (pc := 241) hx hb dX4_clause_241 rfl (lv_at hl 1 rfl) ?_
                        refine lv_iconst (pc := 242) (v := 4) hx hb dX4_clause_242 (by decide) ?_
                        obtain ⟨w82, hj83, hq84⟩ := wt_bd_o hd
                        have hX85 : ∀ w82_ : MSt, w82_ = w82 → ∀ (H : Heap) (locs : List Loc) (ls : Array Slot), mW X w82_ H → va_S (mA lo hi) s_.heap H locs → lv_has ls 5 [(0, .ref X.1.1), (1, .int w1.1), (3, .int (0 : Int32)), (4, .int w29_.1)] → W p_ l e_ (headSpec (ws_ yX4_clause cX4_clause 5 none) ({ frames := 5, cells := 0, slots := 0, locals := 109 })).room s_ m_ ([.ref X.1.1] : List Value).toArray below_ meth_ c_ H locs 0 0 (MQ below_ (mQv X out_ (mA lo hi)) ([.ref X.1.1] : List Value).toArray s_ 0 0 (mA lo hi)) (F0 m_ 252 ls []) := by
                          intro w82_ hw_
                          have hd := hq84
                          subst hw_
                          clear hj83 hq84
                          intro H locs ls hW hS hl
                          refine lv_iload_n (pc := 252) hx hb dX4_clause_252 rfl (lv_at hl 1 rfl) ?_
                          refine lv_iconst (pc := 253) (v := 5) hx hb dX4_clause_253 (by decide) ?_
                          obtain ⟨w88, hj89, hq90⟩ := wt_bd_o hd
                          have hX91 : ∀ w88_ : MSt, w88_ = w88 → ∀ (H : Heap) (locs : List Loc) (ls : Array Slot), mW X w88_ H → va_S (mA lo hi) s_.heap H locs → lv_has ls 5 [(0, .ref X.1.1), (1, .int w1.1), (3, .int (0 : Int32)), (4, .int w29_.1)] → W p_ l e_ (headSpec (ws_ yX4_clause cX4_clause 5 none) ({ frames := 5, cells := 0, slots := 0, locals := 109 })).room s_ m_ ([.ref X.1.1] : List Value).toArray below_ meth_ c_ H locs 0 0 (MQ below_ (mQv X out_ (mA lo hi)) ([.ref X.1.1] : List Value).toArray s_ 0 0 (mA lo hi)) (F0 m_ 283 ls []) := by
                            intro w88_ hw_
                            have hd := hq90
                            subst hw_
                            clear hj89 hq90
                            intro H locs ls hW hS hl
                            refine lv_iload_n (pc := 283) hx hb dX4_clause_283 rfl (lv_at hl 1 rfl) ?_
                            refine lv_bipush (pc := 284) (v := 6) hx hb dX4_clause_284 (by decide) ?_
                            refine lv_icmp_ne (pc := 286) (tgt := 297) hx hb dX4_clause_286 (by decide) (fun c99 => ?_) (fun c99 => ?_)
                            · have hd := wt_if hd c99
                              have hd := wt_rs_r (Option.some.inj hd) hq25
                              exact mr_vret hx hb hr hlocks (Option.some.inj hd) hW hK hS dX4_clause_297
                            · have hd := wt_it hd c99
                              refine lv_aload_n (pc := 289) hx hb dX4_clause_289 rfl (lv_at hl 0 rfl) ?_
                              refine mr_get (pc := 290) (k := 22) (v := .ref (X.1.2.1 22)) hx hb hts hown hK hW (by decide) rfl q1551 dX4_clause_290 ?_
                              refine lv_iload_n (pc := 293) hx hb dX4_clause_293 rfl (lv_at hl 2 rfl) ?_
                              refine lv_iload (pc := 294) hx hb dX4_clause_294 (lv_at hl 3 rfl) ?_
                              obtain ⟨h100, hd⟩ := wt_ck_o hd
                              obtain ⟨σ101, eσ101, hd⟩ := wt_lt_o hd
                              refine mr_ast (pc := 296) (k := 22) hx hb hK hW hJ hS rfl h100 eσ101 dX4_clause_296 (fun H locs hW hS => ?_)
                              have hd := wt_rs_r (Option.some.inj hd) hq25
                              exact mr_vret hx hb hr hlocks (Option.some.inj hd) hW hK hS dX4_clause_297
                          have hd := hj89
                          refine lv_icmp_ne (pc := 254) (tgt := 283) hx hb dX4_clause_254 (by decide) (fun c92 => ?_) (fun c92 => ?_)
                          · have hd := wt_if hd c92
                            exact hX91 w82_ (Option.some.inj hd) _ _ _ hW hS hl
                          · have hd := wt_it hd c92
                            refine lv_aload_n (pc := 257) hx hb dX4_clause_257 rfl (lv_at hl 0 rfl) ?_
                            refine mr_get (pc := 258) (k := 23) (v := .ref (X.1.2.1 23)) hx hb hts hown hK hW (by decide) rfl q1552 dX4_clause_258 ?_
                            refine lv_iload_n (pc := 261) hx hb dX4_clause_261 rfl (lv_at hl 2 rfl) ?_
                            refine lv_dup2_11 (pc := 262) hx hb dX4_clause_262 rfl rfl ?_
                            obtain ⟨h93, hd⟩ := wt_ck_o hd
                            refine mr_ald (pc := 263) (k := 23) hx hb hK hW rfl h93 dX4_clause_263 ?_
                            refine lv_iconst (pc := 264) (v := 1) hx hb dX4_clause_264 (by decide) ?_
                            refine lv_iload (pc := 265) hx hb dX4_clause_265 (lv_at hl 3 rfl) ?_
                            refine lv_ishl (pc := 267) hx hb dX4_clause_267 ?_
                            refine lv_ior (pc := 268) hx hb dX4_clause_268 ?_
                            obtain ⟨h94, hd⟩ := wt_ck_o hd
                            obtain ⟨σ95, eσ95, hd⟩ := wt_lt_o hd
                            refine mr_ast (pc := 269) (k := 23) hx hb hK hW hJ hS rfl h94 eσ95 dX4_clause_269 (fun H locs hW hS => ?_)
                            refine lv_aload_n (pc := 270) hx hb dX4_clause_270 rfl (lv_at hl 0 rfl) ?_
                            refine mr_get (pc := 271) (k := 23) (v := .ref (X.1.2.1 23)) hx hb hts hown hK hW (by decide) rfl q1552 dX4_clause_271 ?_
                            refine lv_iload (pc := 274) hx hb dX4_clause_274 (lv_at hl 3 rfl) ?_
                            refine lv_dup2_11 (pc := 276) hx hb dX4_clause_276 rfl rfl ?_
                            obtain ⟨h96, hd⟩ := wt_ck_o hd
                            refine mr_ald (pc := 277) (k := 23) hx hb hK hW rfl h96 dX4_clause_277 ?_
                            refine lv_iconst (pc := 278) (v := 1) hx hb dX4_clause_278 (by decide) ?_
                            refine lv_iload_n (pc := 279) hx hb dX4_clause_279 rfl (lv_at hl 2 rfl) ?_
                            refine lv_ishl (pc := 280) hx hb dX4_clause_280 ?_
                            refine lv_ior (pc := 281) hx hb dX4_clause_281 ?_
                            obtain ⟨h97, hd⟩ := wt_ck_o hd
                            obtain ⟨σ98, eσ98, hd⟩ := wt_lt_o hd
                            refine mr_ast (pc := 282) (k := 23) hx hb hK hW hJ hS rfl h97 eσ98 dX4_clause_282 (fun H locs hW hS => ?_)
                            exact hX91 σ98 (Option.some.inj hd) _ _ _ hW hS hl
                        have hd := hj83
                        refine lv_icmp_ne (pc := 243) (tgt := 252) hx hb dX4_clause_243 (by decide) (fun c86 => ?_) (fun c86 => ?_)
                        · have hd := wt_if hd c86
                          exact hX85 w76_ (Option.some.inj hd) _ _ _ hW hS hl
                        · have hd := wt_it hd c86
                          refine lv_aload_n (pc := 246) hx hb dX4_clause_246 rfl (lv_at hl 0 rfl) ?_
                          refine lv_iload (pc := 247) hx hb dX4_clause_247 (lv_at hl 3 rfl) ?_
                          obtain ⟨σ87, eσ87, hd⟩ := wt_lt_o hd
                          refine mr_put (pc := 249) (k := 19) hx hb hts hown hK hW hJ hS (by decide) rfl eσ87 q1548 dX4_clause_249 (fun H locs hW hS => ?_)
                          exact hX85 σ87 (Option.some.inj hd) _ _ _ hW hS hl
                      have hd := hj77
                      refine lv_icmp_ne (pc := 232) (tgt := 241) hx hb dX4_clause_232 (by decide) (fun c80 => ?_) (fun c80 => ?_)
                      · have hd := wt_if hd c80
                        exact hX79 w70_ (Option.some.inj hd) _ _ _ hW hS hl
                      · have hd := wt_it hd c80
                        refine lv_aload_n (pc := 235) hx hb dX4_clause_235 rfl (lv_at hl 0 rfl) ?_
                        refine lv_iload (pc := 236) hx hb dX4_clause_236 (lv_at hl 3 rfl) ?_
                        obtain ⟨σ81, eσ81, hd⟩ := wt_lt_o hd
                        refine mr_put (pc := 238) (k := 18) hx hb hts hown hK hW hJ hS (by decide) rfl eσ81 q1547 dX4_clause_238 (fun H locs hW hS => ?_)
                        exact hX79 σ81 (Option.some.inj hd) _ _ _ hW hS hl
                    have hd := hj71
                    refine lv_icmp_ne (pc := 221) (tgt := 230) hx hb dX4_clause_221 (by decide) (fun c74 => ?_) (fun c74 => ?_)
                    · have hd := wt_if hd c74
                      exact hX73 w63_ (Option.some.inj hd) _ _ _ hW hS hl
                    · have hd := wt_it hd c74
                      refine lv_aload_n (pc := 224) hx hb dX4_clause_224 rfl (lv_at hl 0 rfl) ?_
                      refine lv_iload (pc := 225) hx hb dX4_clause_225 (lv_at hl 3 rfl) ?_
                      obtain ⟨σ75, eσ75, hd⟩ := wt_lt_o hd
                      refine mr_put (pc := 227) (k := 17) hx hb hts hown hK hW hJ hS (by decide) rfl eσ75 q1546 dX4_clause_227 (fun H locs hW hS => ?_)
                      exact hX73 σ75 (Option.some.inj hd) _ _ _ hW hS hl
                  have hd := hj64
                  refine lv_icmp_ne (pc := 208) (tgt := 219) hx hb dX4_clause_208 (by decide) (fun c67 => ?_) (fun c67 => ?_)
                  · have hd := wt_if hd c67
                    exact hX66 w55_ (Option.some.inj hd) _ _ _ hW hS hl
                  · have hd := wt_it hd c67
                    refine lv_aload_n (pc := 211) hx hb dX4_clause_211 rfl (lv_at hl 0 rfl) ?_
                    refine mr_get (pc := 212) (k := 21) (v := .ref (X.1.2.1 21)) hx hb hts hown hK hW (by decide) rfl q1550 dX4_clause_212 ?_
                    refine lv_iload_n (pc := 215) hx hb dX4_clause_215 rfl (lv_at hl 2 rfl) ?_
                    refine lv_iload (pc := 216) hx hb dX4_clause_216 (lv_at hl 3 rfl) ?_
                    obtain ⟨h68, hd⟩ := wt_ck_o hd
                    obtain ⟨σ69, eσ69, hd⟩ := wt_lt_o hd
                    refine mr_ast (pc := 218) (k := 21) hx hb hK hW hJ hS rfl h68 eσ69 dX4_clause_218 (fun H locs hW hS => ?_)
                    exact hX66 σ69 (Option.some.inj hd) _ _ _ hW hS hl
                have hd := hj56
                refine lv_if_ne (pc := 193) (tgt := 206) hx hb dX4_clause_193 (by decide) (fun c59 => ?_) (fun c59 => ?_)
                · have hd := wt_if hd c59
                  exact hX58 σ53 (Option.some.inj hd) _ _ _ hW hS (lv_sub hl [1, 2, 4, 0] rfl)
                · have hd := wt_it hd c59
                  refine lv_aload_n (pc := 196) hx hb dX4_clause_196 rfl (lv_at hl 1 rfl) ?_
                  refine mr_get (pc := 197) (k := 20) (v := .ref (X.1.2.1 20)) hx hb hts hown hK hW (by decide) rfl q1549 dX4_clause_197 ?_
                  refine lv_iload_n (pc := 200) hx hb dX4_clause_200 rfl (lv_at hl 3 rfl) ?_
                  obtain ⟨h60, hd⟩ := wt_ck_o hd
                  refine mr_row (pc := 201) (k := 20) hx hb hK hW rfl h60 dX4_clause_201 ?_
                  refine lv_iload_n (pc := 202) hx hb dX4_clause_202 rfl (lv_at hl 4 rfl) ?_
                  refine lv_iload (pc := 203) hx hb dX4_clause_203 (lv_at hl 0 rfl) ?_
                  obtain ⟨h61, hd⟩ := wt_ck_o hd
                  obtain ⟨σ62, eσ62, hd⟩ := wt_lt_o hd
                  refine mr_gst (pc := 205) (k := 20) (i := (w16_.1.toNatClampNeg)) hx hb hK hW hJ hS (vp_lt h60) rfl h61 eσ62 dX4_clause_205 (fun H locs hW hS => ?_)
                  exact hX58 σ62 (Option.some.inj hd) _ _ _ hW hS (lv_sub hl [1, 2, 4, 0] rfl)
              · have hd := wt_if hd c54
                have hd := wt_rs_r (Option.some.inj hd) hq25
                exact mr_vret hx hb hr hlocks (Option.some.inj hd) hW hK hS dX4_clause_191
            have hd := hj30
            refine lv_icmp_ne (pc := 94) (tgt := 108) hx hb dX4_clause_94 (by decide) (fun c33 => ?_) (fun c33 => ?_)
            · have hd := wt_if hd c33
              refine lv_aload_n (pc := 108) hx hb dX4_clause_108 rfl (lv_at hl 2 rfl) ?_
              refine lv_iload_n (pc := 109) hx hb dX4_clause_109 rfl (lv_at hl 3 rfl) ?_
              refine lv_iconst (pc := 110) (v := 4) hx hb dX4_clause_110 (by decide) ?_
              obtain ⟨w34, hj35, hq36⟩ := wt_bd_o hd
              have hX37 : ∀ w34_ : Int32, w34_ = w34 → ∀ (H : Heap) (locs : List Loc) (ls : Array Slot), mW X w16_.2 H → va_S (mA lo hi) s_.heap H locs → lv_has ls 5 [(0, .ref X.1.1), (1, .int w1.1), (2, .int w16_.1), (3, .int (0 : Int32))] → W p_ l e_ (headSpec (ws_ yX4_clause cX4_clause 5 none) ({ frames := 5, cells := 0, slots := 0, locals := 109 })).room s_ m_ ([.ref X.1.1] : List Value).toArray below_ meth_ c_ H locs 0 0 (MQ below_ (mQv X out_ (mA lo hi)) ([.ref X.1.1] : List Value).toArray s_ 0 0 (mA lo hi)) (F0 m_ 119 ls [.int w34_, .ref X.1.1]) := by
                intro w34_ hw_
                have hd := hq36
                subst hw_
                clear hj35 hq36
                intro H locs ls hW hS hl
                refine lv_iload_n (pc := 119) hx hb dX4_clause_119 rfl (lv_at hl 1 rfl) ?_
                obtain ⟨w39, hj40, hq41⟩ := wt_bd_o hd
                have hX42 : ∀ w39_ : Int32, w39_ = w39 → ∀ (H : Heap) (locs : List Loc) (ls : Array Slot), mW X w16_.2 H → va_S (mA lo hi) s_.heap H locs → lv_has ls 5 [(0, .ref X.1.1), (1, .int w1.1), (2, .int w16_.1), (3, .int (0 : Int32))] → W p_ l e_ (headSpec (ws_ yX4_clause cX4_clause 5 none) ({ frames := 5, cells := 0, slots := 0, locals := 109 })).room s_ m_ ([.ref X.1.1] : List Value).toArray below_ meth_ c_ H locs 0 0 (MQ below_ (mQv X out_ (mA lo hi)) ([.ref X.1.1] : List Value).toArray s_ 0 0 (mA lo hi)) (F0 m_ 162 ls [.int w39_, .int w34_, .ref X.1.1]) := by
                  intro w39_ hw_
                  have hd := hq41
                  subst hw_
                  clear hj40 hq41
                  intro H locs ls hW hS hl
                  refine lv_iconst (pc := 162) (v := -1) hx hb dX4_clause_162 (by decide) ?_
                  obtain ⟨w47, hc48, hd⟩ := wt_bd_o hd
                  refine kX4_number (pc := 163) hx hb hml hown hts hK hJ hW hS hc48 hl.1 (Nat.le_of_ble_eq_true rfl) ⟨Nat.le_of_ble_eq_true rfl, Nat.le_of_ble_eq_true rfl⟩ ⟨Nat.le_refl _, Nat.le_refl _⟩ dX4_clause_163 (fun H locs hW hS => ?_)
                  exact hX32 (w47.1, w47.2) (Option.some.inj hd) _ _ _ hW hS hl
                have hd := hj40
                refine lv_if_ne (pc := 120) (tgt := 129) hx hb dX4_clause_120 (by decide) (fun c43 => ?_) (fun c43 => ?_)
                · have hd := wt_if hd c43
                  refine lv_iload_n (pc := 129) hx hb dX4_clause_129 rfl (lv_at hl 1 rfl) ?_
                  refine lv_iconst (pc := 130) (v := 3) hx hb dX4_clause_130 (by decide) ?_
                  refine lv_icmp_ne (pc := 131) (tgt := 139) hx hb dX4_clause_131 (by decide) (fun c44 => ?_) (fun c44 => ?_)
                  · have hd := wt_if hd c44
                    refine lv_iload_n (pc := 139) hx hb dX4_clause_139 rfl (lv_at hl 1 rfl) ?_
                    refine lv_iconst (pc := 140) (v := 4) hx hb dX4_clause_140 (by decide) ?_
                    refine lv_icmp_ne (pc := 141) (tgt := 149) hx hb dX4_clause_141 (by decide) (fun c45 => ?_) (fun c45 => ?_)
                    · have hd := wt_if hd c45
                      refine lv_iload_n (pc := 149) hx hb dX4_clause_149 rfl (lv_at hl 1 rfl) ?_
                      refine lv_bipush (pc := 150) (v := 6) hx hb dX4_clause_150 (by decide) ?_
                      refine lv_icmp_ne (pc := 152) (tgt := 160) hx hb dX4_clause_152 (by decide) (fun c46 => ?_) (fun c46 => ?_)
                      · have hd := wt_if hd c46
                        refine lv_bipush (pc := 160) (v := 16) hx hb dX4_clause_160 (by decide) ?_
                        exact hX42 (16 : Int32) (Option.some.inj hd) _ _ _ hW hS hl
                      · have hd := wt_it hd c46
                        refine lv_bipush (pc := 155) (v := 20) hx hb dX4_clause_155 (by decide) ?_
                        refine lv_goto (pc := 157) (tgt := 162) hx hb dX4_clause_157 (by decide) ?_
                        exact hX42 (20 : Int32) (Option.some.inj hd) _ _ _ hW hS hl
                    · have hd := wt_it hd c45
                      refine lv_bipush (pc := 144) (v := 15) hx hb dX4_clause_144 (by decide) ?_
                      refine lv_goto (pc := 146) (tgt := 162) hx hb dX4_clause_146 (by decide) ?_
                      exact hX42 (15 : Int32) (Option.some.inj hd) _ _ _ hW hS hl
                  · have hd := wt_it hd c44
                    refine lv_bipush (pc := 134) (v := 8) hx hb dX4_clause_134 (by decide) ?_
                    refine lv_goto (pc := 136) (tgt := 162) hx hb dX4_clause_136 (by decide) ?_
                    exact hX42 (8 : Int32) (Option.some.inj hd) _ _ _ hW hS hl
                · have hd := wt_it hd c43
                  refine lv_sipush (pc := 123) (v := 200) hx hb dX4_clause_123 (by decide) ?_
                  refine lv_goto (pc := 126) (tgt := 162) hx hb dX4_clause_126 (by decide) ?_
                  exact hX42 (200 : Int32) (Option.some.inj hd) _ _ _ hW hS hl
              have hd := hj35
              refine lv_icmp_ne (pc := 111) (tgt := 118) hx hb dX4_clause_111 (by decide) (fun c38 => ?_) (fun c38 => ?_)
              · have hd := wt_if hd c38
                refine lv_iconst (pc := 118) (v := 0) hx hb dX4_clause_118 (by decide) ?_
                exact hX37 (0 : Int32) (Option.some.inj hd) _ _ _ hW hS (lv_sub hl [2, 3, 1, 0] rfl)
              · have hd := wt_it hd c38
                refine lv_iconst (pc := 114) (v := 1) hx hb dX4_clause_114 (by decide) ?_
                refine lv_goto (pc := 115) (tgt := 119) hx hb dX4_clause_115 (by decide) ?_
                exact hX37 (1 : Int32) (Option.some.inj hd) _ _ _ hW hS (lv_sub hl [2, 3, 1, 0] rfl)
            · have hd := wt_it hd c33
              refine lv_aload_n (pc := 97) hx hb dX4_clause_97 rfl (lv_at hl 2 rfl) ?_
              refine lv_iconst (pc := 98) (v := 0) hx hb dX4_clause_98 (by decide) ?_
              refine lv_bipush (pc := 99) (v := 9) hx hb dX4_clause_99 (by decide) ?_
              refine lv_iload_n (pc := 101) hx hb dX4_clause_101 rfl (lv_at hl 0 rfl) ?_
              obtain ⟨w49, hc50, hd⟩ := wt_bd_o hd
              refine kX4_number (pc := 102) hx hb hml hown hts hK hJ hW hS hc50 hl.1 (Nat.le_of_ble_eq_true rfl) ⟨Nat.le_of_ble_eq_true rfl, Nat.le_of_ble_eq_true rfl⟩ ⟨Nat.le_refl _, Nat.le_refl _⟩ dX4_clause_102 (fun H locs hW hS => ?_)
              refine lv_goto (pc := 105) (tgt := 166) hx hb dX4_clause_105 (by decide) ?_
              exact hX32 (w49.1, w49.2) (Option.some.inj hd) _ _ _ hW hS (lv_sub hl [2, 3, 1, 0] rfl)
          · have hd := wt_if hd c28
            exact hX26 () (Option.some.inj hd) _ _ _ hW hS (lv_sub hl [1, 2, 0] rfl)
      have hd := hj17
      refine lv_if_ne (pc := 53) (tgt := 67) hx hb dX4_clause_53 (by decide) (fun c20 => ?_) (fun c20 => ?_)
      · have hd := wt_if hd c20
        refine lv_iconst (pc := 67) (v := 0) hx hb dX4_clause_67 (by decide) ?_
        exact hX19 ((0 : Int32), w14) (Option.some.inj hd) _ _ _ hW hS hl
      · have hd := wt_it hd c20
        refine lv_aload_n (pc := 56) hx hb dX4_clause_56 rfl (lv_at hl 0 rfl) ?_
        refine lv_iconst (pc := 57) (v := 0) hx hb dX4_clause_57 (by decide) ?_
        refine lv_bipush (pc := 58) (v := 7) hx hb dX4_clause_58 (by decide) ?_
        refine lv_iconst (pc := 60) (v := -1) hx hb dX4_clause_60 (by decide) ?_
        obtain ⟨w21, hc22, hd⟩ := wt_bd_o hd
        refine kX4_number (pc := 61) hx hb hml hown hts hK hJ hW hS hc22 hl.1 (Nat.le_of_ble_eq_true rfl) ⟨Nat.le_of_ble_eq_true rfl, Nat.le_of_ble_eq_true rfl⟩ ⟨Nat.le_refl _, Nat.le_refl _⟩ dX4_clause_61 (fun H locs hW hS => ?_)
        refine lv_goto (pc := 64) (tgt := 68) hx hb dX4_clause_64 (by decide) ?_
        exact hX19 (w21.1, w21.2) (Option.some.inj hd) _ _ _ hW hS hl
    · have hd := wt_if hd c13
      exact mr_vret hx hb hr hlocks (Option.some.inj hd) hW hK hS dX4_clause_47
  have hd := hj4
  refine lv_icmp_ne (pc := 7) (tgt := 22) hx hb dX4_clause_7 (by decide) (fun c7 => ?_) (fun c7 => ?_)
  · have hd := wt_if hd c7
    refine lv_aload_n (pc := 22) hx hb dX4_clause_22 rfl (lv_at hl 1 rfl) ?_
    refine mr_get (pc := 23) (k := 16) (v := .int ((w1.2.1 16))) hx hb hts hown hK hW (by decide) rfl q1545 dX4_clause_23 ?_
    refine lv_bipush (pc := 26) (v := 24) hx hb dX4_clause_26 (by decide) ?_
    refine lv_icmp_ne (pc := 28) (tgt := 40) hx hb dX4_clause_28 (by decide) (fun c8 => ?_) (fun c8 => ?_)
    · have hd := wt_if hd c8
      exact hX6 w1.2 (Option.some.inj hd) _ _ _ hW hS (lv_sub hl [1, 0] rfl)
    · have hd := wt_it hd c8
      refine lv_aload_n (pc := 31) hx hb dX4_clause_31 rfl (lv_at hl 1 rfl) ?_
      refine lv_iconst (pc := 32) (v := 3) hx hb dX4_clause_32 (by decide) ?_
      refine lv_aload_n (pc := 33) hx hb dX4_clause_33 rfl (lv_at hl 1 rfl) ?_
      refine mr_get (pc := 34) (k := 4) (v := .int ((w1.2.1 4))) hx hb hts hown hK hW (by decide) rfl q1533 dX4_clause_34 ?_
      obtain ⟨w9, hc10, hd⟩ := wt_bd_o hd
      refine kX4_wrong (pc := 37) hx hb hml hown hts hK hJ hW hS hc10 hl.1 (Nat.le_of_ble_eq_true rfl) ⟨Nat.le_of_ble_eq_true rfl, Nat.le_of_ble_eq_true rfl⟩ ⟨Nat.le_refl _, Nat.le_refl _⟩ dX4_clause_37 (fun H locs hW hS => ?_)
      exact hX6 w9 (Option.some.inj hd) _ _ _ hW hS (lv_sub hl [1, 0] rfl)
  · have hd := wt_it hd c7
    refine lv_aload_n (pc := 10) hx hb dX4_clause_10 rfl (lv_at hl 1 rfl) ?_
    refine lv_iconst (pc := 11) (v := 1) hx hb dX4_clause_11 (by decide) ?_
    refine lv_aload_n (pc := 12) hx hb dX4_clause_12 rfl (lv_at hl 1 rfl) ?_
    refine mr_get (pc := 13) (k := 4) (v := .int ((w1.2.1 4))) hx hb hts hown hK hW (by decide) rfl q1533 dX4_clause_13 ?_
    obtain ⟨w11, hc12, hd⟩ := wt_bd_o hd
    refine kX4_wrong (pc := 16) hx hb hml hown hts hK hJ hW hS hc12 hl.1 (Nat.le_of_ble_eq_true rfl) ⟨Nat.le_of_ble_eq_true rfl, Nat.le_of_ble_eq_true rfl⟩ ⟨Nat.le_refl _, Nat.le_refl _⟩ dX4_clause_16 (fun H locs hW hS => ?_)
    refine lv_goto (pc := 19) (tgt := 40) hx hb dX4_clause_19 (by decide) ?_
    exact hX6 w11 (Option.some.inj hd) _ _ _ hW hS (lv_sub hl [1, 0] rfl)
theorem kX4_clause {p : Program} {l : Launch} {e : Env} {R : Room} {s : State} {m : MethodId} {args : Array Value} {below : List Frame} {meth : Method} {c : Code} {H : Heap} {locs : List Loc} {cells slots : Nat} {Q : State → Prop} {cc : ByteArray} {pc : Nat} {ls : Array Slot} {rest : List Value} {H0 : Heap} {nL : Nat} {X : MPar} {lo hi : Nat} {σ : MSt}  {out_ : MSt} (hx : p.tables.exec = Jvm.exec) (hb : c.code = cc) (hml : c.maxLocals = nL) (hown : s.vm.findClass RX4 = some m.cls) (hts : ∀ w ∈ lw_all, w.before args s = true) (hK : mK X s) (hJ : mJ X lo hi) (hW : mW X σ H) (hS : va_S (mA lo hi) H0 H locs) (hd : dX4_clause σ = some out_) (hsz : ls.size = nL) (hrm : (rest.map fun v => v.category).sum ≤ 8) (hR : 6 ≤ R.frames ∧ 133 ≤ R.locals) (hcs : cells ≤ R.cells ∧ slots ≤ R.slots) (hdg : decode cc pc = .ok (.invokevirtual 177, 3)) (kk : ∀ (H1 : Heap) (locs1 : List Loc), mW X out_ H1 → va_S (mA lo hi) H0 H1 locs1 → W p l e R s m args below meth c H1 locs1 cells slots Q (F0 m (pc + 3) ls (rest))) : W p l e R s m args below meth c H locs cells slots Q (F0 m pc ls (.ref X.1.1 :: rest)) := by
  refine va_callv (va_runV (As := []) (rest := rest) ⟨hx, hb, hml, hown, hts⟩ (wX4_clause l hJ hd) (cwV 0 hts (lw_V q1711 q1713 qs29 q88 q1714) rfl rfl rfl (by decide +kernel) hR) (mr_pre hK hW) rfl rfl hsz rfl (lv_room hrm) hdg hcs) hS (fun _ _ h => h) (fun _ h => h) (fun u t H1 locs1 ht hvm hp hB hz hk hS1 => ?_)
  have hW1 : mW X out_ t.heap := hB.1
  rw [ht] at hW1
  exact kk H1 locs1 hW1 hS1
noncomputable def bX4_law_2 (v18 : Int32 × MSt) (v35 : Int32 × MSt) : Option ((Int32 × MSt) ⊕ (MSt)) :=
  if (8 : Int32) ≤ v35.1 then (some (.inr v35.2)) else (wt_ck (vp_in v35.1 8) <| wt_ck (vp_in v18.1 10) <| wt_lt (m_sG v35.2 20 (v35.1.toNatClampNeg) v18.1.toNatClampNeg (0 : Int32)) fun σ48 => wt_lt (v35.1 + (1 : Int32)) fun n49 => some (.inl (n49, σ48)))
noncomputable def bX4_law_1  (v18 : Int32 × MSt) : Option ((Int32 × MSt) ⊕ (MSt)) :=
  if (10 : Int32) ≤ v18.1 then (some (.inr v18.2)) else (wt_ck (vp_in v18.1 10) <| wt_lt (m_sA v18.2 21 v18.1.toNatClampNeg (16 : Int32)) fun σ30 => wt_ck (vp_in v18.1 10) <| wt_lt (m_sA σ30 22 v18.1.toNatClampNeg (0 : Int32)) fun σ32 => wt_ck (vp_in v18.1 10) <| wt_lt (m_sA σ32 23 v18.1.toNatClampNeg (0 : Int32)) fun σ34 => wt_bd (wt_whC (bX4_law_2 v18) ((0 : Int32), σ34)) fun w36 => wt_lt (v18.1 + (1 : Int32)) fun n50 => some (.inl (n50, w36)))
noncomputable def bX4_law_3  (v51 : MSt) : Option ((MSt) ⊕ (MSt)) :=
  if (v51.1 5) = 0 then (if (v51.1 2) ≤ (v51.1 4) then (some (.inr v51)) else (wt_bd (dX4_clause v51) fun w63 => wt_bd (dX4_blanks w63) fun w65 => some (.inl w65))) else (some (.inr v51))
noncomputable def bX4_law_5 (v73 : Int32 × MSt) (v93 : Int32 × MSt) : Option ((Int32 × MSt) ⊕ (MSt)) :=
  if (8 : Int32) ≤ v93.1 then (some (.inr v93.2)) else (wt_ck (vp_in v93.1 8) <| wt_ck (vp_in v93.1 8) <| wt_ck (vp_in v73.1 10) <| wt_ck (vp_in v73.1 10) <| wt_lt (m_sG v93.2 12 (v93.1.toNatClampNeg) v73.1.toNatClampNeg (v93.2.2.2 20 (v93.1.toNatClampNeg) v73.1.toNatClampNeg)) fun σ108 => wt_lt (v93.1 + (1 : Int32)) fun n109 => some (.inl (n109, σ108)))
noncomputable def bX4_law_4  (v73 : Int32 × MSt) : Option ((Int32 × MSt) ⊕ (MSt)) :=
  if (10 : Int32) ≤ v73.1 then (some (.inr v73.2)) else (wt_ck (vp_in v73.1 10) <| wt_ck (vp_in v73.1 10) <| wt_lt (m_sA v73.2 13 v73.1.toNatClampNeg (v73.2.2.1 21 v73.1.toNatClampNeg)) fun σ86 => wt_ck (vp_in v73.1 10) <| wt_ck (vp_in v73.1 10) <| wt_lt (m_sA σ86 14 v73.1.toNatClampNeg (σ86.2.1 22 v73.1.toNatClampNeg)) fun σ89 => wt_ck (vp_in v73.1 10) <| wt_ck (vp_in v73.1 10) <| wt_lt (m_sA σ89 15 v73.1.toNatClampNeg (σ89.2.1 23 v73.1.toNatClampNeg)) fun σ92 => wt_bd (wt_whC (bX4_law_5 v73) ((0 : Int32), σ92)) fun w94 => wt_lt (v73.1 + (1 : Int32)) fun n110 => some (.inl (n110, w94)))
noncomputable def dX4_law (σ : MSt) (a0 : Int32) : Option (Int32 × MSt) :=
  wt_lt (m_sF σ 0 (0 : Int32)) fun σ1 => wt_bd (dX4_in a0 (0 : Int32) (σ1.1 1)) fun w2 => wt_bd (if w2 = 0 then (some (1 : Int32)) else (some (0 : Int32))) fun w4 => wt_bd (dX4_bad σ1 w4 (1 : Int32)) fun w9 => if w9.1 = 0 then (wt_bd (dX4_begins w9.2 a0) fun w12 => wt_lt (m_sF w12 16 (0 : Int32)) fun σ14 => wt_lt (m_sF σ14 17 (0 : Int32)) fun σ15 => wt_lt (m_sF σ15 18 (0 : Int32)) fun σ16 => wt_lt (m_sF σ16 19 (8 : Int32)) fun σ17 => wt_bd (wt_whC (bX4_law_1) ((0 : Int32), σ17)) fun w19 => wt_bd (wt_whC (bX4_law_3) w19) fun w52 => wt_lt (m_sF w52 3 (w52.1 6)) fun σ67 => if (σ67.1 5) = 0 then (wt_lt (m_sF σ67 8 (σ67.1 16)) fun σ69 => wt_lt (m_sF σ69 9 (σ69.1 17)) fun σ70 => wt_lt (m_sF σ70 10 (σ70.1 18)) fun σ71 => wt_lt (m_sF σ71 11 (σ71.1 19)) fun σ72 => wt_bd (wt_whC (bX4_law_4) ((0 : Int32), σ72)) fun w74 => some ((w74.1 8), w74)) else (some (((σ67.1 5) - (10 : Int32)), σ67))) else (some ((0 : Int32), w9.2))
set_option maxHeartbeats 4000000 in
theorem wX4_law (l : Launch) {X : MPar} {lo hi : Nat} (hJ : mJ X lo hi) {σ : MSt} {a0 : Int32} {out_ : Int32 × MSt} (hd : dX4_law σ a0 = some out_) : Met l yX4_law (ws_ yX4_law cX4_law 4 (some .int)) ({ frames := 6, cells := 0, slots := 0, locals := 133 }) (mP X σ [.ref X.1.1, .int a0]) (mQi X out_.1 out_.2 (mA lo hi)) 0 0 (mA lo hi) := by
  refine Met.ofW (cc := cX4_law) (maxL := 4) (ret := (some .int)) (by decide) rfl ?_
  intro p_ e_ s_ m_ args_ below_ meth_ c_ s₁_ B hml hv
  obtain ⟨rfl, hW, hK⟩ := hv
  have hx := B.exec
  have hb := B.bytes
  have hr := B.returns
  have hts := atoms_spec (ws := (ws_ yX4_law cX4_law 4 (some .int))) B.pre
  have hts : ∀ w ∈ lw_all, w.before _ s_ = true := fun w h => hts w (List.mem_cons_of_mem _ h)
  have hown : s_.vm.findClass RX4 = some m_.cls := findClass_of_methodNamed B.named
  have hlocks := B.notSynchronized
  have hS : va_S (mA lo hi) s_.heap s_.heap [] := va_S.rf
  have hl := lv_entry ([.ref X.1.1, .int a0]) (n := 4) (Nat.le_of_ble_eq_true rfl)
  rw [lg_entry_eq]
  generalize (lg_sl ([.ref X.1.1, .int a0]) ++ List.replicate (4 - (lg_sl ([.ref X.1.1, .int a0])).length) Slot.unset).toArray = ls at hl ⊢
  have hl : lv_has ls 4 [(0, .ref X.1.1), (1, .int a0)] := hl
  unfold dX4_law at hd
  refine lv_aload_n (pc := 0) hx hb dX4_law_0 rfl (lv_at hl 0 rfl) ?_
  refine lv_iconst (pc := 1) (v := 0) hx hb dX4_law_1 (by decide) ?_
  obtain ⟨σ1, eσ1, hd⟩ := wt_lt_o hd
  refine mr_put (pc := 2) (k := 0) hx hb hts hown hK hW hJ hS (by decide) rfl eσ1 q1529 dX4_law_2 (fun H locs hW hS => ?_)
  refine lv_aload_n (pc := 5) hx hb dX4_law_5 rfl (lv_at hl 0 rfl) ?_
  refine lv_iload_n (pc := 6) hx hb dX4_law_6 rfl (lv_at hl 1 rfl) ?_
  refine lv_iconst (pc := 7) (v := 0) hx hb dX4_law_7 (by decide) ?_
  refine lv_aload_n (pc := 8) hx hb dX4_law_8 rfl (lv_at hl 0 rfl) ?_
  refine mr_get (pc := 9) (k := 1) (v := .int ((σ1.1 1))) hx hb hts hown hK hW (by decide) rfl q1530 dX4_law_9 ?_
  obtain ⟨w2, hc3, hd⟩ := wt_bd_o hd
  refine kX4_in (pc := 12) hx hb hml hown hts hK hW hS hc3 hl.1 (Nat.le_of_ble_eq_true rfl) ⟨Nat.le_of_ble_eq_true rfl, Nat.le_of_ble_eq_true rfl⟩ ⟨Nat.le_refl _, Nat.le_refl _⟩ dX4_law_12 (fun H locs hW hS => ?_)
  obtain ⟨w4, hj5, hq6⟩ := wt_bd_o hd
  have hX7 : ∀ w4_ : Int32, w4_ = w4 → ∀ (H : Heap) (locs : List Loc) (ls : Array Slot), mW X σ1 H → va_S (mA lo hi) s_.heap H locs → lv_has ls 4 [(0, .ref X.1.1), (1, .int a0)] → W p_ l e_ (headSpec (ws_ yX4_law cX4_law 4 (some .int)) ({ frames := 6, cells := 0, slots := 0, locals := 133 })).room s_ m_ ([.ref X.1.1, .int a0] : List Value).toArray below_ meth_ c_ H locs 0 0 (MQ below_ (mQi X out_.1 out_.2 (mA lo hi)) ([.ref X.1.1, .int a0] : List Value).toArray s_ 0 0 (mA lo hi)) (F0 m_ 23 ls [.int w4_, .ref X.1.1]) := by
    intro w4_ hw_
    have hd := hq6
    subst hw_
    clear hj5 hq6
    intro H locs ls hW hS hl
    refine lv_iconst (pc := 23) (v := 1) hx hb dX4_law_23 (by decide) ?_
    obtain ⟨w9, hc10, hd⟩ := wt_bd_o hd
    refine kX4_bad (pc := 24) hx hb hml hown hts hK hJ hW hS hc10 hl.1 (Nat.le_of_ble_eq_true rfl) ⟨Nat.le_of_ble_eq_true rfl, Nat.le_of_ble_eq_true rfl⟩ ⟨Nat.le_refl _, Nat.le_refl _⟩ dX4_law_24 (fun H locs hW hS => ?_)
    refine lv_if_eq (pc := 27) (tgt := 32) hx hb dX4_law_27 (by decide) (fun c11 => ?_) (fun c11 => ?_)
    · have hd := wt_it hd c11
      refine lv_aload_n (pc := 32) hx hb dX4_law_32 rfl (lv_at hl 0 rfl) ?_
      refine lv_iload_n (pc := 33) hx hb dX4_law_33 rfl (lv_at hl 1 rfl) ?_
      obtain ⟨w12, hc13, hd⟩ := wt_bd_o hd
      refine kX4_begins (pc := 34) hx hb hml hown hts hK hJ hW hS hc13 hl.1 (Nat.le_of_ble_eq_true rfl) ⟨Nat.le_of_ble_eq_true rfl, Nat.le_of_ble_eq_true rfl⟩ ⟨Nat.le_refl _, Nat.le_refl _⟩ dX4_law_34 (fun H locs hW hS => ?_)
      refine lv_aload_n (pc := 37) hx hb dX4_law_37 rfl (lv_at hl 0 rfl) ?_
      refine lv_iconst (pc := 38) (v := 0) hx hb dX4_law_38 (by decide) ?_
      obtain ⟨σ14, eσ14, hd⟩ := wt_lt_o hd
      refine mr_put (pc := 39) (k := 16) hx hb hts hown hK hW hJ hS (by decide) rfl eσ14 q1545 dX4_law_39 (fun H locs hW hS => ?_)
      refine lv_aload_n (pc := 42) hx hb dX4_law_42 rfl (lv_at hl 0 rfl) ?_
      refine lv_iconst (pc := 43) (v := 0) hx hb dX4_law_43 (by decide) ?_
      obtain ⟨σ15, eσ15, hd⟩ := wt_lt_o hd
      refine mr_put (pc := 44) (k := 17) hx hb hts hown hK hW hJ hS (by decide) rfl eσ15 q1546 dX4_law_44 (fun H locs hW hS => ?_)
      refine lv_aload_n (pc := 47) hx hb dX4_law_47 rfl (lv_at hl 0 rfl) ?_
      refine lv_iconst (pc := 48) (v := 0) hx hb dX4_law_48 (by decide) ?_
      obtain ⟨σ16, eσ16, hd⟩ := wt_lt_o hd
      refine mr_put (pc := 49) (k := 18) hx hb hts hown hK hW hJ hS (by decide) rfl eσ16 q1547 dX4_law_49 (fun H locs hW hS => ?_)
      refine lv_aload_n (pc := 52) hx hb dX4_law_52 rfl (lv_at hl 0 rfl) ?_
      refine lv_bipush (pc := 53) (v := 8) hx hb dX4_law_53 (by decide) ?_
      obtain ⟨σ17, eσ17, hd⟩ := wt_lt_o hd
      refine mr_put (pc := 55) (k := 19) hx hb hts hown hK hW hJ hS (by decide) rfl eσ17 q1548 dX4_law_55 (fun H locs hW hS => ?_)
      refine lv_iconst (pc := 58) (v := 0) hx hb dX4_law_58 (by decide) ?_
      refine lv_istore_n (pc := 59) (lv' := [(2, .int (0 : Int32)), (0, .ref X.1.1), (1, .int a0)]) hx hb dX4_law_59 rfl hl (by decide) rfl (fun ls hl => ?_)
      obtain ⟨w19, hL20, hq21⟩ := wt_bd_o hd
      have hX22 : ∀ w19_ : MSt, w19_ = w19 → ∀ (H : Heap) (locs : List Loc) (ls : Array Slot), mW X w19_ H → va_S (mA lo hi) s_.heap H locs → lv_has ls 4 [(0, .ref X.1.1)] → W p_ l e_ (headSpec (ws_ yX4_law cX4_law 4 (some .int)) ({ frames := 6, cells := 0, slots := 0, locals := 133 })).room s_ m_ ([.ref X.1.1, .int a0] : List Value).toArray below_ meth_ c_ H locs 0 0 (MQ below_ (mQi X out_.1 out_.2 (mA lo hi)) ([.ref X.1.1, .int a0] : List Value).toArray s_ 0 0 (mA lo hi)) (F0 m_ 117 ls []) := by
        intro w19_ hw_
        have hd := hq21
        subst hw_
        clear hL20 hq21
        intro H locs ls hW hS hl
        obtain ⟨w52, hL53, hq54⟩ := wt_bd_o hd
        have hX55 : ∀ w52_ : MSt, w52_ = w52 → ∀ (H : Heap) (locs : List Loc) (ls : Array Slot), mW X w52_ H → va_S (mA lo hi) s_.heap H locs → lv_has ls 4 [(0, .ref X.1.1)] → W p_ l e_ (headSpec (ws_ yX4_law cX4_law 4 (some .int)) ({ frames := 6, cells := 0, slots := 0, locals := 133 })).room s_ m_ ([.ref X.1.1, .int a0] : List Value).toArray below_ meth_ c_ H locs 0 0 (MQ below_ (mQi X out_.1 out_.2 (mA lo hi)) ([.ref X.1.1, .int a0] : List Value).toArray s_ 0 0 (mA lo hi)) (F0 m_ 146 ls []) := by
          intro w52_ hw_
          have hd := hq54
          subst hw_
          clear hL53 hq54
          intro H locs ls hW hS hl
          refine lv_aload_n (pc := 146) hx hb dX4_law_146 rfl (lv_at hl 0 rfl) ?_
          refine lv_aload_n (pc := 147) hx hb dX4_law_147 rfl (lv_at hl 0 rfl) ?_
          refine mr_get (pc := 148) (k := 6) (v := .int ((w52_.1 6))) hx hb hts hown hK hW (by decide) rfl q1535 dX4_law_148 ?_
          obtain ⟨σ67, eσ67, hd⟩ := wt_lt_o hd
          refine mr_put (pc := 151) (k := 3) hx hb hts hown hK hW hJ hS (by decide) rfl eσ67 q1532 dX4_law_151 (fun H locs hW hS => ?_)
          refine lv_aload_n (pc := 154) hx hb dX4_law_154 rfl (lv_at hl 0 rfl) ?_
          refine mr_get (pc := 155) (k := 5) (v := .int ((σ67.1 5))) hx hb hts hown hK hW (by decide) rfl q1534 dX4_law_155 ?_
          refine lv_if_eq (pc := 158) (tgt := 169) hx hb dX4_law_158 (by decide) (fun c68 => ?_) (fun c68 => ?_)
          · have hd := wt_it hd c68
            refine lv_aload_n (pc := 169) hx hb dX4_law_169 rfl (lv_at hl 0 rfl) ?_
            refine lv_aload_n (pc := 170) hx hb dX4_law_170 rfl (lv_at hl 0 rfl) ?_
            refine mr_get (pc := 171) (k := 16) (v := .int ((σ67.1 16))) hx hb hts hown hK hW (by decide) rfl q1545 dX4_law_171 ?_
            obtain ⟨σ69, eσ69, hd⟩ := wt_lt_o hd
            refine mr_put (pc := 174) (k := 8) hx hb hts hown hK hW hJ hS (by decide) rfl eσ69 q1537 dX4_law_174 (fun H locs hW hS => ?_)
            refine lv_aload_n (pc := 177) hx hb dX4_law_177 rfl (lv_at hl 0 rfl) ?_
            refine lv_aload_n (pc := 178) hx hb dX4_law_178 rfl (lv_at hl 0 rfl) ?_
            refine mr_get (pc := 179) (k := 17) (v := .int ((σ69.1 17))) hx hb hts hown hK hW (by decide) rfl q1546 dX4_law_179 ?_
            obtain ⟨σ70, eσ70, hd⟩ := wt_lt_o hd
            refine mr_put (pc := 182) (k := 9) hx hb hts hown hK hW hJ hS (by decide) rfl eσ70 q1538 dX4_law_182 (fun H locs hW hS => ?_)
            refine lv_aload_n (pc := 185) hx hb dX4_law_185 rfl (lv_at hl 0 rfl) ?_
            refine lv_aload_n (pc := 186) hx hb dX4_law_186 rfl (lv_at hl 0 rfl) ?_
            refine mr_get (pc := 187) (k := 18) (v := .int ((σ70.1 18))) hx hb hts hown hK hW (by decide) rfl q1547 dX4_law_187 ?_
            obtain ⟨σ71, eσ71, hd⟩ := wt_lt_o hd
            refine mr_put (pc := 190) (k := 10) hx hb hts hown hK hW hJ hS (by decide) rfl eσ71 q1539 dX4_law_190 (fun H locs hW hS => ?_)
            refine lv_aload_n (pc := 193) hx hb dX4_law_193 rfl (lv_at hl 0 rfl) ?_
            refine lv_aload_n (pc := 194) hx hb dX4_law_194 rfl (lv_at hl 0 rfl) ?_
            refine mr_get (pc := 195) (k := 19) (v := .int ((σ71.1 19))) hx hb hts hown hK hW (by decide) rfl q1548 dX4_law_195 ?_
            obtain ⟨σ72, eσ72, hd⟩ := wt_lt_o hd
            refine mr_put (pc := 198) (k := 11) hx hb hts hown hK hW hJ hS (by decide) rfl eσ72 q1540 dX4_law_198 (fun H locs hW hS => ?_)
            refine lv_iconst (pc := 201) (v := 0) hx hb dX4_law_201 (by decide) ?_
            refine lv_istore_n (pc := 202) (lv' := [(2, .int (0 : Int32)), (0, .ref X.1.1)]) hx hb dX4_law_202 rfl hl (by decide) rfl (fun ls hl => ?_)
            obtain ⟨w74, hL75, hq76⟩ := wt_bd_o hd
            have hX77 : ∀ w74_ : MSt, w74_ = w74 → ∀ (H : Heap) (locs : List Loc) (ls : Array Slot), mW X w74_ H → va_S (mA lo hi) s_.heap H locs → lv_has ls 4 [(0, .ref X.1.1)] → W p_ l e_ (headSpec (ws_ yX4_law cX4_law 4 (some .int)) ({ frames := 6, cells := 0, slots := 0, locals := 133 })).room s_ m_ ([.ref X.1.1, .int a0] : List Value).toArray below_ meth_ c_ H locs 0 0 (MQ below_ (mQi X out_.1 out_.2 (mA lo hi)) ([.ref X.1.1, .int a0] : List Value).toArray s_ 0 0 (mA lo hi)) (F0 m_ 281 ls []) := by
              intro w74_ hw_
              have hd := hq76
              subst hw_
              clear hL75 hq76
              intro H locs ls hW hS hl
              refine lv_aload_n (pc := 281) hx hb dX4_law_281 rfl (lv_at hl 0 rfl) ?_
              refine mr_get (pc := 282) (k := 8) (v := .int ((w74_.1 8))) hx hb hts hown hK hW (by decide) rfl q1537 dX4_law_282 ?_
              exact mr_iret hx hb hr rfl hlocks (wt_p1 hd) (wt_p2 hd) hW hK hS dX4_law_285
            have hI82 : ∀ (k81 : Nat) (v73 : Int32 × MSt), wt_wh (bX4_law_4) k81 v73 = some w74 → ∀ (H : Heap) (locs : List Loc) (ls : Array Slot), mW X v73.2 H → va_S (mA lo hi) s_.heap H locs → lv_has ls 4 [(0, .ref X.1.1), (2, .int v73.1)] → W p_ l e_ (headSpec (ws_ yX4_law cX4_law 4 (some .int)) ({ frames := 6, cells := 0, slots := 0, locals := 133 })).room s_ m_ ([.ref X.1.1, .int a0] : List Value).toArray below_ meth_ c_ H locs 0 0 (MQ below_ (mQi X out_.1 out_.2 (mA lo hi)) ([.ref X.1.1, .int a0] : List Value).toArray s_ 0 0 (mA lo hi)) (F0 m_ 203 ls []) := by
              intro k81
              induction k81 with
              | zero => intro v73 hd; exact absurd hd wt_wh_z
              | succ k81 ih79 =>
                intro v73 hd
                intro H locs ls hW hS hl
                obtain ⟨r80, hd, hk78⟩ := wt_wh_o hd
                unfold bX4_law_4 at hd
                refine lv_iload_n (pc := 203) hx hb dX4_law_203 rfl (lv_at hl 1 rfl) ?_
                refine lv_bipush (pc := 204) (v := 10) hx hb dX4_law_204 (by decide) ?_
                refine lv_icmp_ge (pc := 206) (tgt := 281) hx hb dX4_law_206 (by decide) (fun c83 => ?_) (fun c83 => ?_)
                · have hd := wt_it hd c83
                  exact hX77 v73.2 (wt_exit hd hk78) _ _ _ hW hS (lv_sub hl [0] rfl)
                · have hd := wt_if hd c83
                  refine lv_aload_n (pc := 209) hx hb dX4_law_209 rfl (lv_at hl 0 rfl) ?_
                  refine mr_get (pc := 210) (k := 13) (v := .ref (X.1.2.1 13)) hx hb hts hown hK hW (by decide) rfl q1542 dX4_law_210 ?_
                  refine lv_iload_n (pc := 213) hx hb dX4_law_213 rfl (lv_at hl 1 rfl) ?_
                  refine lv_aload_n (pc := 214) hx hb dX4_law_214 rfl (lv_at hl 0 rfl) ?_
                  refine mr_get (pc := 215) (k := 21) (v := .ref (X.1.2.1 21)) hx hb hts hown hK hW (by decide) rfl q1550 dX4_law_215 ?_
                  refine lv_iload_n (pc := 218) hx hb dX4_law_218 rfl (lv_at hl 1 rfl) ?_
                  obtain ⟨h84, hd⟩ := wt_ck_o hd
                  refine mr_ald (pc := 219) (k := 21) hx hb hK hW rfl h84 dX4_law_219 ?_
                  obtain ⟨h85, hd⟩ := wt_ck_o hd
                  obtain ⟨σ86, eσ86, hd⟩ := wt_lt_o hd
                  refine mr_ast (pc := 220) (k := 13) hx hb hK hW hJ hS rfl h85 eσ86 dX4_law_220 (fun H locs hW hS => ?_)
                  refine lv_aload_n (pc := 221) hx hb dX4_law_221 rfl (lv_at hl 0 rfl) ?_
                  refine mr_get (pc := 222) (k := 14) (v := .ref (X.1.2.1 14)) hx hb hts hown hK hW (by decide) rfl q1543 dX4_law_222 ?_
                  refine lv_iload_n (pc := 225) hx hb dX4_law_225 rfl (lv_at hl 1 rfl) ?_
                  refine lv_aload_n (pc := 226) hx hb dX4_law_226 rfl (lv_at hl 0 rfl) ?_
                  refine mr_get (pc := 227) (k := 22) (v := .ref (X.1.2.1 22)) hx hb hts hown hK hW (by decide) rfl q1551 dX4_law_227 ?_
                  refine lv_iload_n (pc := 230) hx hb dX4_law_230 rfl (lv_at hl 1 rfl) ?_
                  obtain ⟨h87, hd⟩ := wt_ck_o hd
                  refine mr_ald (pc := 231) (k := 22) hx hb hK hW rfl h87 dX4_law_231 ?_
                  obtain ⟨h88, hd⟩ := wt_ck_o hd
                  obtain ⟨σ89, eσ89, hd⟩ := wt_lt_o hd
                  refine mr_ast (pc := 232) (k := 14) hx hb hK hW hJ hS rfl h88 eσ89 dX4_law_232 (fun H locs hW hS => ?_)
                  refine lv_aload_n (pc := 233) hx hb dX4_law_233 rfl (lv_at hl 0 rfl) ?_
                  refine mr_get (pc := 234) (k := 15) (v := .ref (X.1.2.1 15)) hx hb hts hown hK hW (by decide) rfl q1544 dX4_law_234 ?_
                  refine lv_iload_n (pc := 237) hx hb dX4_law_237 rfl (lv_at hl 1 rfl) ?_
                  refine lv_aload_n (pc := 238) hx hb dX4_law_238 rfl (lv_at hl 0 rfl) ?_
                  refine mr_get (pc := 239) (k := 23) (v := .ref (X.1.2.1 23)) hx hb hts hown hK hW (by decide) rfl q1552 dX4_law_239 ?_
                  refine lv_iload_n (pc := 242) hx hb dX4_law_242 rfl (lv_at hl 1 rfl) ?_
                  obtain ⟨h90, hd⟩ := wt_ck_o hd
                  refine mr_ald (pc := 243) (k := 23) hx hb hK hW rfl h90 dX4_law_243 ?_
                  obtain ⟨h91, hd⟩ := wt_ck_o hd
                  obtain ⟨σ92, eσ92, hd⟩ := wt_lt_o hd
                  refine mr_ast (pc := 244) (k := 15) hx hb hK hW hJ hS rfl h91 eσ92 dX4_law_244 (fun H locs hW hS => ?_)
                  refine lv_iconst (pc := 245) (v := 0) hx hb dX4_law_245 (by decide) ?_
                  refine lv_istore_n (pc := 246) (lv' := [(3, .int (0 : Int32)), (0, .ref X.1.1), (2, .int v73.1)]) hx hb dX4_law_246 rfl hl (by decide) rfl (fun ls hl => ?_)
                  obtain ⟨w94, hL95, hq96⟩ := wt_bd_o hd
                  have hX97 : ∀ w94_ : MSt, w94_ = w94 → ∀ (H : Heap) (locs : List Loc) (ls : Array Slot), mW X w94_ H → va_S (mA lo hi) s_.heap H locs → lv_has ls 4 [(0, .ref X.1.1), (2, .int v73.1)] → W p_ l e_ (headSpec (ws_ yX4_law cX4_law 4 (some .int)) ({ frames := 6, cells := 0, slots := 0, locals := 133 })).room s_ m_ ([.ref X.1.1, .int a0] : List Value).toArray below_ meth_ c_ H locs 0 0 (MQ below_ (mQi X out_.1 out_.2 (mA lo hi)) ([.ref X.1.1, .int a0] : List Value).toArray s_ 0 0 (mA lo hi)) (F0 m_ 275 ls []) := by
                    intro w94_ hw_
                    have hd := hq96
                    subst hw_
                    clear hL95 hq96
                    intro H locs ls hW hS hl
                    obtain ⟨n110, en110, hd⟩ := wt_lt_o hd
                    refine lv_iinc (pc := 275) (k := 1) (v := n110) (lv' := [(2, .int n110), (0, .ref X.1.1)]) hx hb dX4_law_275 hl rfl en110.symm (by decide) rfl (fun ls hl => ?_)
                    refine lv_goto (pc := 278) (tgt := 203) hx hb dX4_law_278 (by decide) ?_
                    exact ih79 _ (wt_again hd hk78) _ _ _ hW hS (lv_sub hl [1, 0] rfl)
                  have hI102 : ∀ (k101 : Nat) (v93 : Int32 × MSt), wt_wh (bX4_law_5 v73) k101 v93 = some w94 → ∀ (H : Heap) (locs : List Loc) (ls : Array Slot), mW X v93.2 H → va_S (mA lo hi) s_.heap H locs → lv_has ls 4 [(0, .ref X.1.1), (2, .int v73.1), (3, .int v93.1)] → W p_ l e_ (headSpec (ws_ yX4_law cX4_law 4 (some .int)) ({ frames := 6, cells := 0, slots := 0, locals := 133 })).room s_ m_ ([.ref X.1.1, .int a0] : List Value).toArray below_ meth_ c_ H locs 0 0 (MQ below_ (mQi X out_.1 out_.2 (mA lo hi)) ([.ref X.1.1, .int a0] : List Value).toArray s_ 0 0 (mA lo hi)) (F0 m_ 247 ls []) := by
                    intro k101
                    induction k101 with
                    | zero => intro v93 hd; exact absurd hd wt_wh_z
                    | succ k101 ih99 =>
                      intro v93 hd
                      intro H locs ls hW hS hl
                      obtain ⟨r100, hd, hk98⟩ := wt_wh_o hd
                      unfold bX4_law_5 at hd
                      refine lv_iload_n (pc := 247) hx hb dX4_law_247 rfl (lv_at hl 2 rfl) ?_
                      refine lv_bipush (pc := 248) (v := 8) hx hb dX4_law_248 (by decide) ?_
                      refine lv_icmp_ge (pc := 250) (tgt := 275) hx hb dX4_law_250 (by decide) (fun c103 => ?_) (fun c103 => ?_)
                      · have hd := wt_it hd c103
                        exact hX97 v93.2 (wt_exit hd hk98) _ _ _ hW hS (lv_sub hl [0, 1] rfl)
                      · have hd := wt_if hd c103
                        refine lv_aload_n (pc := 253) hx hb dX4_law_253 rfl (lv_at hl 0 rfl) ?_
                        refine mr_get (pc := 254) (k := 12) (v := .ref (X.1.2.1 12)) hx hb hts hown hK hW (by decide) rfl q1541 dX4_law_254 ?_
                        refine lv_iload_n (pc := 257) hx hb dX4_law_257 rfl (lv_at hl 2 rfl) ?_
                        obtain ⟨h104, hd⟩ := wt_ck_o hd
                        refine mr_row (pc := 258) (k := 12) hx hb hK hW rfl h104 dX4_law_258 ?_
                        refine lv_iload_n (pc := 259) hx hb dX4_law_259 rfl (lv_at hl 1 rfl) ?_
                        refine lv_aload_n (pc := 260) hx hb dX4_law_260 rfl (lv_at hl 0 rfl) ?_
                        refine mr_get (pc := 261) (k := 20) (v := .ref (X.1.2.1 20)) hx hb hts hown hK hW (by decide) rfl q1549 dX4_law_261 ?_
                        refine lv_iload_n (pc := 264) hx hb dX4_law_264 rfl (lv_at hl 2 rfl) ?_
                        obtain ⟨h105, hd⟩ := wt_ck_o hd
                        refine mr_row (pc := 265) (k := 20) hx hb hK hW rfl h105 dX4_law_265 ?_
                        refine lv_iload_n (pc := 266) hx hb dX4_law_266 rfl (lv_at hl 1 rfl) ?_
                        obtain ⟨h106, hd⟩ := wt_ck_o hd
                        refine mr_gld (pc := 267) (k := 20) (i := (v93.1.toNatClampNeg)) hx hb hK hW (vp_lt h105) rfl h106 dX4_law_267 ?_
                        obtain ⟨h107, hd⟩ := wt_ck_o hd
                        obtain ⟨σ108, eσ108, hd⟩ := wt_lt_o hd
                        refine mr_gst (pc := 268) (k := 12) (i := (v93.1.toNatClampNeg)) hx hb hK hW hJ hS (vp_lt h104) rfl h107 eσ108 dX4_law_268 (fun H locs hW hS => ?_)
                        obtain ⟨n109, en109, hd⟩ := wt_lt_o hd
                        refine lv_iinc (pc := 269) (k := 2) (v := n109) (lv' := [(3, .int n109), (0, .ref X.1.1), (2, .int v73.1)]) hx hb dX4_law_269 hl rfl en109.symm (by decide) rfl (fun ls hl => ?_)
                        refine lv_goto (pc := 272) (tgt := 247) hx hb dX4_law_272 (by decide) ?_
                        exact ih99 _ (wt_again hd hk98) _ _ _ hW hS (lv_sub hl [1, 2, 0] rfl)
                  obtain ⟨k101, hL95⟩ := wt_whC_o hL95
                  exact hI102 k101 _ hL95 _ _ _ hW hS (lv_sub hl [1, 2, 0] rfl)
            obtain ⟨k81, hL75⟩ := wt_whC_o hL75
            exact hI82 k81 _ hL75 _ _ _ hW hS (lv_sub hl [1, 0] rfl)
          · have hd := wt_if hd c68
            refine lv_aload_n (pc := 161) hx hb dX4_law_161 rfl (lv_at hl 0 rfl) ?_
            refine mr_get (pc := 162) (k := 5) (v := .int ((σ67.1 5))) hx hb hts hown hK hW (by decide) rfl q1534 dX4_law_162 ?_
            refine lv_bipush (pc := 165) (v := 10) hx hb dX4_law_165 (by decide) ?_
            refine lv_isub (pc := 167) hx hb dX4_law_167 ?_
            exact mr_iret hx hb hr rfl hlocks (wt_p1 hd) (wt_p2 hd) hW hK hS dX4_law_168
        have hI60 : ∀ (k59 : Nat) (v51 : MSt), wt_wh (bX4_law_3) k59 v51 = some w52 → ∀ (H : Heap) (locs : List Loc) (ls : Array Slot), mW X v51 H → va_S (mA lo hi) s_.heap H locs → lv_has ls 4 [(0, .ref X.1.1)] → W p_ l e_ (headSpec (ws_ yX4_law cX4_law 4 (some .int)) ({ frames := 6, cells := 0, slots := 0, locals := 133 })).room s_ m_ ([.ref X.1.1, .int a0] : List Value).toArray below_ meth_ c_ H locs 0 0 (MQ below_ (mQi X out_.1 out_.2 (mA lo hi)) ([.ref X.1.1, .int a0] : List Value).toArray s_ 0 0 (mA lo hi)) (F0 m_ 117 ls []) := by
          intro k59
          induction k59 with
          | zero => intro v51 hd; exact absurd hd wt_wh_z
          | succ k59 ih57 =>
            intro v51 hd
            intro H locs ls hW hS hl
            obtain ⟨r58, hd, hk56⟩ := wt_wh_o hd
            unfold bX4_law_3 at hd
            refine lv_aload_n (pc := 117) hx hb dX4_law_117 rfl (lv_at hl 0 rfl) ?_
            refine mr_get (pc := 118) (k := 5) (v := .int ((v51.1 5))) hx hb hts hown hK hW (by decide) rfl q1534 dX4_law_118 ?_
            refine lv_if_ne (pc := 121) (tgt := 146) hx hb dX4_law_121 (by decide) (fun c61 => ?_) (fun c61 => ?_)
            · have hd := wt_if hd c61
              exact hX55 v51 (wt_exit hd hk56) _ _ _ hW hS hl
            · have hd := wt_it hd c61
              refine lv_aload_n (pc := 124) hx hb dX4_law_124 rfl (lv_at hl 0 rfl) ?_
              refine mr_get (pc := 125) (k := 4) (v := .int ((v51.1 4))) hx hb hts hown hK hW (by decide) rfl q1533 dX4_law_125 ?_
              refine lv_aload_n (pc := 128) hx hb dX4_law_128 rfl (lv_at hl 0 rfl) ?_
              refine mr_get (pc := 129) (k := 2) (v := .int ((v51.1 2))) hx hb hts hown hK hW (by decide) rfl q1531 dX4_law_129 ?_
              refine lv_icmp_ge (pc := 132) (tgt := 146) hx hb dX4_law_132 (by decide) (fun c62 => ?_) (fun c62 => ?_)
              · have hd := wt_it hd c62
                exact hX55 v51 (wt_exit hd hk56) _ _ _ hW hS hl
              · have hd := wt_if hd c62
                refine lv_aload_n (pc := 135) hx hb dX4_law_135 rfl (lv_at hl 0 rfl) ?_
                obtain ⟨w63, hc64, hd⟩ := wt_bd_o hd
                refine kX4_clause (pc := 136) hx hb hml hown hts hK hJ hW hS hc64 hl.1 (Nat.le_of_ble_eq_true rfl) ⟨Nat.le_of_ble_eq_true rfl, Nat.le_of_ble_eq_true rfl⟩ ⟨Nat.le_refl _, Nat.le_refl _⟩ dX4_law_136 (fun H locs hW hS => ?_)
                refine lv_aload_n (pc := 139) hx hb dX4_law_139 rfl (lv_at hl 0 rfl) ?_
                obtain ⟨w65, hc66, hd⟩ := wt_bd_o hd
                refine kX4_blanks (pc := 140) hx hb hml hown hts hK hJ hW hS hc66 hl.1 (Nat.le_of_ble_eq_true rfl) ⟨Nat.le_of_ble_eq_true rfl, Nat.le_of_ble_eq_true rfl⟩ ⟨Nat.le_refl _, Nat.le_refl _⟩ dX4_law_140 (fun H locs hW hS => ?_)
                refine lv_goto (pc := 143) (tgt := 117) hx hb dX4_law_143 (by decide) ?_
                exact ih57 _ (wt_again hd hk56) _ _ _ hW hS hl
        obtain ⟨k59, hL53⟩ := wt_whC_o hL53
        exact hI60 k59 _ hL53 _ _ _ hW hS hl
      have hI27 : ∀ (k26 : Nat) (v18 : Int32 × MSt), wt_wh (bX4_law_1) k26 v18 = some w19 → ∀ (H : Heap) (locs : List Loc) (ls : Array Slot), mW X v18.2 H → va_S (mA lo hi) s_.heap H locs → lv_has ls 4 [(0, .ref X.1.1), (2, .int v18.1)] → W p_ l e_ (headSpec (ws_ yX4_law cX4_law 4 (some .int)) ({ frames := 6, cells := 0, slots := 0, locals := 133 })).room s_ m_ ([.ref X.1.1, .int a0] : List Value).toArray below_ meth_ c_ H locs 0 0 (MQ below_ (mQi X out_.1 out_.2 (mA lo hi)) ([.ref X.1.1, .int a0] : List Value).toArray s_ 0 0 (mA lo hi)) (F0 m_ 60 ls []) := by
        intro k26
        induction k26 with
        | zero => intro v18 hd; exact absurd hd wt_wh_z
        | succ k26 ih24 =>
          intro v18 hd
          intro H locs ls hW hS hl
          obtain ⟨r25, hd, hk23⟩ := wt_wh_o hd
          unfold bX4_law_1 at hd
          refine lv_iload_n (pc := 60) hx hb dX4_law_60 rfl (lv_at hl 1 rfl) ?_
          refine lv_bipush (pc := 61) (v := 10) hx hb dX4_law_61 (by decide) ?_
          refine lv_icmp_ge (pc := 63) (tgt := 117) hx hb dX4_law_63 (by decide) (fun c28 => ?_) (fun c28 => ?_)
          · have hd := wt_it hd c28
            exact hX22 v18.2 (wt_exit hd hk23) _ _ _ hW hS (lv_sub hl [0] rfl)
          · have hd := wt_if hd c28
            refine lv_aload_n (pc := 66) hx hb dX4_law_66 rfl (lv_at hl 0 rfl) ?_
            refine mr_get (pc := 67) (k := 21) (v := .ref (X.1.2.1 21)) hx hb hts hown hK hW (by decide) rfl q1550 dX4_law_67 ?_
            refine lv_iload_n (pc := 70) hx hb dX4_law_70 rfl (lv_at hl 1 rfl) ?_
            refine lv_bipush (pc := 71) (v := 16) hx hb dX4_law_71 (by decide) ?_
            obtain ⟨h29, hd⟩ := wt_ck_o hd
            obtain ⟨σ30, eσ30, hd⟩ := wt_lt_o hd
            refine mr_ast (pc := 73) (k := 21) hx hb hK hW hJ hS rfl h29 eσ30 dX4_law_73 (fun H locs hW hS => ?_)
            refine lv_aload_n (pc := 74) hx hb dX4_law_74 rfl (lv_at hl 0 rfl) ?_
            refine mr_get (pc := 75) (k := 22) (v := .ref (X.1.2.1 22)) hx hb hts hown hK hW (by decide) rfl q1551 dX4_law_75 ?_
            refine lv_iload_n (pc := 78) hx hb dX4_law_78 rfl (lv_at hl 1 rfl) ?_
            refine lv_iconst (pc := 79) (v := 0) hx hb dX4_law_79 (by decide) ?_
            obtain ⟨h31, hd⟩ := wt_ck_o hd
            obtain ⟨σ32, eσ32, hd⟩ := wt_lt_o hd
            refine mr_ast (pc := 80) (k := 22) hx hb hK hW hJ hS rfl h31 eσ32 dX4_law_80 (fun H locs hW hS => ?_)
            refine lv_aload_n (pc := 81) hx hb dX4_law_81 rfl (lv_at hl 0 rfl) ?_
            refine mr_get (pc := 82) (k := 23) (v := .ref (X.1.2.1 23)) hx hb hts hown hK hW (by decide) rfl q1552 dX4_law_82 ?_
            refine lv_iload_n (pc := 85) hx hb dX4_law_85 rfl (lv_at hl 1 rfl) ?_
            refine lv_iconst (pc := 86) (v := 0) hx hb dX4_law_86 (by decide) ?_
            obtain ⟨h33, hd⟩ := wt_ck_o hd
            obtain ⟨σ34, eσ34, hd⟩ := wt_lt_o hd
            refine mr_ast (pc := 87) (k := 23) hx hb hK hW hJ hS rfl h33 eσ34 dX4_law_87 (fun H locs hW hS => ?_)
            refine lv_iconst (pc := 88) (v := 0) hx hb dX4_law_88 (by decide) ?_
            refine lv_istore_n (pc := 89) (lv' := [(3, .int (0 : Int32)), (0, .ref X.1.1), (2, .int v18.1)]) hx hb dX4_law_89 rfl hl (by decide) rfl (fun ls hl => ?_)
            obtain ⟨w36, hL37, hq38⟩ := wt_bd_o hd
            have hX39 : ∀ w36_ : MSt, w36_ = w36 → ∀ (H : Heap) (locs : List Loc) (ls : Array Slot), mW X w36_ H → va_S (mA lo hi) s_.heap H locs → lv_has ls 4 [(0, .ref X.1.1), (2, .int v18.1)] → W p_ l e_ (headSpec (ws_ yX4_law cX4_law 4 (some .int)) ({ frames := 6, cells := 0, slots := 0, locals := 133 })).room s_ m_ ([.ref X.1.1, .int a0] : List Value).toArray below_ meth_ c_ H locs 0 0 (MQ below_ (mQi X out_.1 out_.2 (mA lo hi)) ([.ref X.1.1, .int a0] : List Value).toArray s_ 0 0 (mA lo hi)) (F0 m_ 111 ls []) := by
              intro w36_ hw_
              have hd := hq38
              subst hw_
              clear hL37 hq38
              intro H locs ls hW hS hl
              obtain ⟨n50, en50, hd⟩ := wt_lt_o hd
              refine lv_iinc (pc := 111) (k := 1) (v := n50) (lv' := [(2, .int n50), (0, .ref X.1.1)]) hx hb dX4_law_111 hl rfl en50.symm (by decide) rfl (fun ls hl => ?_)
              refine lv_goto (pc := 114) (tgt := 60) hx hb dX4_law_114 (by decide) ?_
              exact ih24 _ (wt_again hd hk23) _ _ _ hW hS (lv_sub hl [1, 0] rfl)
            have hI44 : ∀ (k43 : Nat) (v35 : Int32 × MSt), wt_wh (bX4_law_2 v18) k43 v35 = some w36 → ∀ (H : Heap) (locs : List Loc) (ls : Array Slot), mW X v35.2 H → va_S (mA lo hi) s_.heap H locs → lv_has ls 4 [(0, .ref X.1.1), (2, .int v18.1), (3, .int v35.1)] → W p_ l e_ (headSpec (ws_ yX4_law cX4_law 4 (some .int)) ({ frames := 6, cells := 0, slots := 0, locals := 133 })).room s_ m_ ([.ref X.1.1, .int a0] : List Value).toArray below_ meth_ c_ H locs 0 0 (MQ below_ (mQi X out_.1 out_.2 (mA lo hi)) ([.ref X.1.1, .int a0] : List Value).toArray s_ 0 0 (mA lo hi)) (F0 m_ 90 ls []) := by
              intro k43
              induction k43 with
              | zero => intro v35 hd; exact absurd hd wt_wh_z
              | succ k43 ih41 =>
                intro v35 hd
                intro H locs ls hW hS hl
                obtain ⟨r42, hd, hk40⟩ := wt_wh_o hd
                unfold bX4_law_2 at hd
                refine lv_iload_n (pc := 90) hx hb dX4_law_90 rfl (lv_at hl 2 rfl) ?_
                refine lv_bipush (pc := 91) (v := 8) hx hb dX4_law_91 (by decide) ?_
                refine lv_icmp_ge (pc := 93) (tgt := 111) hx hb dX4_law_93 (by decide) (fun c45 => ?_) (fun c45 => ?_)
                · have hd := wt_it hd c45
                  exact hX39 v35.2 (wt_exit hd hk40) _ _ _ hW hS (lv_sub hl [0, 1] rfl)
                · have hd := wt_if hd c45
                  refine lv_aload_n (pc := 96) hx hb dX4_law_96 rfl (lv_at hl 0 rfl) ?_
                  refine mr_get (pc := 97) (k := 20) (v := .ref (X.1.2.1 20)) hx hb hts hown hK hW (by decide) rfl q1549 dX4_law_97 ?_
                  refine lv_iload_n (pc := 100) hx hb dX4_law_100 rfl (lv_at hl 2 rfl) ?_
                  obtain ⟨h46, hd⟩ := wt_ck_o hd
                  refine mr_row (pc := 101) (k := 20) hx hb hK hW rfl h46 dX4_law_101 ?_
                  refine lv_iload_n (pc := 102) hx hb dX4_law_102 rfl (lv_at hl 1 rfl) ?_
                  refine lv_iconst (pc := 103) (v := 0) hx hb dX4_law_103 (by decide) ?_
                  obtain ⟨h47, hd⟩ := wt_ck_o hd
                  obtain ⟨σ48, eσ48, hd⟩ := wt_lt_o hd
                  refine mr_gst (pc := 104) (k := 20) (i := (v35.1.toNatClampNeg)) hx hb hK hW hJ hS (vp_lt h46) rfl h47 eσ48 dX4_law_104 (fun H locs hW hS => ?_)
                  obtain ⟨n49, en49, hd⟩ := wt_lt_o hd
                  refine lv_iinc (pc := 105) (k := 2) (v := n49) (lv' := [(3, .int n49), (0, .ref X.1.1), (2, .int v18.1)]) hx hb dX4_law_105 hl rfl en49.symm (by decide) rfl (fun ls hl => ?_)
                  refine lv_goto (pc := 108) (tgt := 90) hx hb dX4_law_108 (by decide) ?_
                  exact ih41 _ (wt_again hd hk40) _ _ _ hW hS (lv_sub hl [1, 2, 0] rfl)
            obtain ⟨k43, hL37⟩ := wt_whC_o hL37
            exact hI44 k43 _ hL37 _ _ _ hW hS (lv_sub hl [1, 2, 0] rfl)
      obtain ⟨k26, hL20⟩ := wt_whC_o hL20
      exact hI27 k26 _ hL20 _ _ _ hW hS (lv_sub hl [1, 0] rfl)
    · have hd := wt_if hd c11
      refine lv_iconst (pc := 30) (v := 0) hx hb dX4_law_30 (by decide) ?_
      exact mr_iret hx hb hr rfl hlocks (wt_p1 hd) (wt_p2 hd) hW hK hS dX4_law_31
  have hd := hj5
  refine lv_if_ne (pc := 15) (tgt := 22) hx hb dX4_law_15 (by decide) (fun c8 => ?_) (fun c8 => ?_)
  · have hd := wt_if hd c8
    refine lv_iconst (pc := 22) (v := 0) hx hb dX4_law_22 (by decide) ?_
    exact hX7 (0 : Int32) (Option.some.inj hd) _ _ _ hW hS hl
  · have hd := wt_it hd c8
    refine lv_iconst (pc := 18) (v := 1) hx hb dX4_law_18 (by decide) ?_
    refine lv_goto (pc := 19) (tgt := 23) hx hb dX4_law_19 (by decide) ?_
    exact hX7 (1 : Int32) (Option.some.inj hd) _ _ _ hW hS hl
noncomputable def dX4_less (a0 : Int32) (a1 : Int32) : Option (Int32) :=
  if a1 ≤ a0 then (some a1) else (some a0)
set_option maxHeartbeats 4000000 in
theorem wX4_less (l : Launch) {a0 : Int32} {a1 : Int32} {out_ : Int32} (hd : dX4_less a0 a1 = some out_) : Met l yX4_less (ws_ yX4_less cX4_less 2 (some .int)) ({ frames := 0, cells := 0, slots := 0, locals := 0 }) (va_Pc [.int a0, .int a1] (fun _ => True)) (msQi out_) 0 0 (fun _ => False) := by
  refine Met.ofW (cc := cX4_less) (maxL := 2) (ret := (some .int)) (by decide) rfl ?_
  intro p_ e_ s_ m_ args_ below_ meth_ c_ s₁_ B hml hv
  obtain ⟨rfl, -⟩ := hv
  have hx := B.exec
  have hb := B.bytes
  have hr := B.returns
  have hts := atoms_spec (ws := (ws_ yX4_less cX4_less 2 (some .int))) B.pre
  have hts : ∀ w ∈ lw_all, w.before _ s_ = true := fun w h => hts w (List.mem_cons_of_mem _ h)
  have hown : s_.vm.findClass RX4 = some m_.cls := findClass_of_methodNamed B.named
  have hlocks := B.notSynchronized
  have hS : va_S (fun _ => False) s_.heap s_.heap [] := va_S.rf
  have hl := lv_entry ([.int a0, .int a1]) (n := 2) (Nat.le_of_ble_eq_true rfl)
  rw [lg_entry_eq]
  generalize (lg_sl ([.int a0, .int a1]) ++ List.replicate (2 - (lg_sl ([.int a0, .int a1])).length) Slot.unset).toArray = ls at hl ⊢
  have hl : lv_has ls 2 [(0, .int a0), (1, .int a1)] := hl
  unfold dX4_less at hd
  refine lv_iload_n (pc := 0) hx hb dX4_less_0 rfl (lv_at hl 0 rfl) ?_
  refine lv_iload_n (pc := 1) hx hb dX4_less_1 rfl (lv_at hl 1 rfl) ?_
  refine lv_icmp_ge (pc := 2) (tgt := 9) hx hb dX4_less_2 (by decide) (fun c1 => ?_) (fun c1 => ?_)
  · have hd := wt_it hd c1
    refine lv_iload_n (pc := 9) hx hb dX4_less_9 rfl (lv_at hl 1 rfl) ?_
    exact ms_iret hx hb hr rfl hlocks (Option.some.inj hd) hS dX4_less_10
  · have hd := wt_if hd c1
    refine lv_iload_n (pc := 5) hx hb dX4_less_5 rfl (lv_at hl 0 rfl) ?_
    refine lv_goto (pc := 6) (tgt := 10) hx hb dX4_less_6 (by decide) ?_
    exact ms_iret hx hb hr rfl hlocks (Option.some.inj hd) hS dX4_less_10
theorem kX4_less {p : Program} {l : Launch} {e : Env} {R : Room} {s : State} {m : MethodId} {args : Array Value} {below : List Frame} {meth : Method} {c : Code} {H : Heap} {locs : List Loc} {cells slots : Nat} {Q : State → Prop} {cc : ByteArray} {pc : Nat} {ls : Array Slot} {rest : List Value} {H0 : Heap} {nL : Nat} {X : MPar} {σ : MSt} {A : Nat → Prop} {a0 : Int32} {a1 : Int32} {out_ : Int32} (hx : p.tables.exec = Jvm.exec) (hb : c.code = cc) (hml : c.maxLocals = nL) (hown : s.vm.findClass RX4 = some m.cls) (hts : ∀ w ∈ lw_all, w.before args s = true) (hK : mK X s) (hW : mW X σ H) (hS : va_S A H0 H locs) (hd : dX4_less a0 a1 = some out_) (hsz : ls.size = nL) (hrm : (rest.map fun v => v.category).sum ≤ 8) (hR : 1 ≤ R.frames ∧ 21 ≤ R.locals) (hcs : cells ≤ R.cells ∧ slots ≤ R.slots) (hdg : decode cc pc = .ok (.invokestatic 192, 3)) (kk : ∀ (H1 : Heap) (locs1 : List Loc), mW X σ H1 → va_S A H0 H1 locs1 → W p l e R s m args below meth c H1 locs1 cells slots Q (F0 m (pc + 3) ls (.int out_ :: rest))) : W p l e R s m args below meth c H locs cells slots Q (F0 m pc ls (.int a1 :: .int a0 :: rest)) := by
  refine va_calli (va_runS (As := [.int a0, .int a1]) (rest := rest) ⟨hx, hb, hml, hown, hts⟩ (wX4_less l hd) (va_cwS 2 hts (lw_S q1754 q1755 q88 q1756) rfl rfl rfl (by decide +kernel) hR) ms_pre rfl rfl hsz rfl (lv_room hrm) hdg hcs) hS (fun _ _ h => h.elim) (fun _ h => h.elim) (fun r u t H1 locs1 ht hvm hp hB hz hk hS1 => ?_)
  have hp : r = out_ := hp
  subst hp
  exact kk H1 locs1 (hW.kept fun q hq => hk q hq (fun h => h)) hS1
noncomputable def dX4_eventHere (σ : MSt)  : Option (Int32 × MSt) :=
  wt_bd (dX4_isWord σ (23 : Int32) (5 : Int32) (1 : Int32) (18 : Int32) (0 : Int32) (0 : Int32)) fun w1 => if w1.1 = 0 then (wt_bd (dX4_isWord w1.2 (2 : Int32) (1 : Int32) (18 : Int32) (5 : Int32) (0 : Int32) (0 : Int32)) fun w4 => if w4.1 = 0 then (wt_bd (dX4_isWord w4.2 (20 : Int32) (15 : Int32) (21 : Int32) (3 : Int32) (8 : Int32) (0 : Int32)) fun w7 => if w7.1 = 0 then (wt_bd (dX4_isWord w7.2 (23 : Int32) (1 : Int32) (19 : Int32) (8 : Int32) (0 : Int32) (0 : Int32)) fun w10 => if w10.1 = 0 then (wt_bd (dX4_isWord w10.2 (19 : Int32) (8 : Int32) (1 : Int32) (11 : Int32) (5 : Int32) (0 : Int32)) fun w13 => if w13.1 = 0 then (some ((-1 : Int32), w13.2)) else (some ((4 : Int32), w13.2))) else (some ((3 : Int32), w10.2))) else (some ((2 : Int32), w7.2))) else (some ((1 : Int32), w4.2))) else (some ((0 : Int32), w1.2))
set_option maxHeartbeats 4000000 in
theorem wX4_eventHere (l : Launch) {X : MPar} {lo hi : Nat} (hJ : mJ X lo hi) {σ : MSt}  {out_ : Int32 × MSt} (hd : dX4_eventHere σ = some out_) : Met l yX4_eventHere (ws_ yX4_eventHere cX4_eventHere 1 (some .int)) ({ frames := 4, cells := 0, slots := 0, locals := 89 }) (mP X σ [.ref X.1.1]) (mQi X out_.1 out_.2 (mA lo hi)) 0 0 (mA lo hi) := by
  refine Met.ofW (cc := cX4_eventHere) (maxL := 1) (ret := (some .int)) (by decide) rfl ?_
  intro p_ e_ s_ m_ args_ below_ meth_ c_ s₁_ B hml hv
  obtain ⟨rfl, hW, hK⟩ := hv
  have hx := B.exec
  have hb := B.bytes
  have hr := B.returns
  have hts := atoms_spec (ws := (ws_ yX4_eventHere cX4_eventHere 1 (some .int))) B.pre
  have hts : ∀ w ∈ lw_all, w.before _ s_ = true := fun w h => hts w (List.mem_cons_of_mem _ h)
  have hown : s_.vm.findClass RX4 = some m_.cls := findClass_of_methodNamed B.named
  have hlocks := B.notSynchronized
  have hS : va_S (mA lo hi) s_.heap s_.heap [] := va_S.rf
  have hl := lv_entry ([.ref X.1.1]) (n := 1) (Nat.le_of_ble_eq_true rfl)
  rw [lg_entry_eq]
  generalize (lg_sl ([.ref X.1.1]) ++ List.replicate (1 - (lg_sl ([.ref X.1.1])).length) Slot.unset).toArray = ls at hl ⊢
  have hl : lv_has ls 1 [(0, .ref X.1.1)] := hl
  unfold dX4_eventHere at hd
  refine lv_aload_n (pc := 0) hx hb dX4_eventHere_0 rfl (lv_at hl 0 rfl) ?_
  refine lv_bipush (pc := 1) (v := 23) hx hb dX4_eventHere_1 (by decide) ?_
  refine lv_iconst (pc := 3) (v := 5) hx hb dX4_eventHere_3 (by decide) ?_
  refine lv_iconst (pc := 4) (v := 1) hx hb dX4_eventHere_4 (by decide) ?_
  refine lv_bipush (pc := 5) (v := 18) hx hb dX4_eventHere_5 (by decide) ?_
  refine lv_iconst (pc := 7) (v := 0) hx hb dX4_eventHere_7 (by decide) ?_
  refine lv_iconst (pc := 8) (v := 0) hx hb dX4_eventHere_8 (by decide) ?_
  obtain ⟨w1, hc2, hd⟩ := wt_bd_o hd
  refine kX4_isWord (pc := 9) hx hb hml hown hts hK hJ hW hS hc2 hl.1 (Nat.le_of_ble_eq_true rfl) ⟨Nat.le_of_ble_eq_true rfl, Nat.le_of_ble_eq_true rfl⟩ ⟨Nat.le_refl _, Nat.le_refl _⟩ dX4_eventHere_9 (fun H locs hW hS => ?_)
  refine lv_if_eq (pc := 12) (tgt := 17) hx hb dX4_eventHere_12 (by decide) (fun c3 => ?_) (fun c3 => ?_)
  · have hd := wt_it hd c3
    refine lv_aload_n (pc := 17) hx hb dX4_eventHere_17 rfl (lv_at hl 0 rfl) ?_
    refine lv_iconst (pc := 18) (v := 2) hx hb dX4_eventHere_18 (by decide) ?_
    refine lv_iconst (pc := 19) (v := 1) hx hb dX4_eventHere_19 (by decide) ?_
    refine lv_bipush (pc := 20) (v := 18) hx hb dX4_eventHere_20 (by decide) ?_
    refine lv_iconst (pc := 22) (v := 5) hx hb dX4_eventHere_22 (by decide) ?_
    refine lv_iconst (pc := 23) (v := 0) hx hb dX4_eventHere_23 (by decide) ?_
    refine lv_iconst (pc := 24) (v := 0) hx hb dX4_eventHere_24 (by decide) ?_
    obtain ⟨w4, hc5, hd⟩ := wt_bd_o hd
    refine kX4_isWord (pc := 25) hx hb hml hown hts hK hJ hW hS hc5 hl.1 (Nat.le_of_ble_eq_true rfl) ⟨Nat.le_of_ble_eq_true rfl, Nat.le_of_ble_eq_true rfl⟩ ⟨Nat.le_refl _, Nat.le_refl _⟩ dX4_eventHere_25 (fun H locs hW hS => ?_)
    refine lv_if_eq (pc := 28) (tgt := 33) hx hb dX4_eventHere_28 (by decide) (fun c6 => ?_) (fun c6 => ?_)
    · have hd := wt_it hd c6
      refine lv_aload_n (pc := 33) hx hb dX4_eventHere_33 rfl (lv_at hl 0 rfl) ?_
      refine lv_bipush (pc := 34) (v := 20) hx hb dX4_eventHere_34 (by decide) ?_
      refine lv_bipush (pc := 36) (v := 15) hx hb dX4_eventHere_36 (by decide) ?_
      refine lv_bipush (pc := 38) (v := 21) hx hb dX4_eventHere_38 (by decide) ?_
      refine lv_iconst (pc := 40) (v := 3) hx hb dX4_eventHere_40 (by decide) ?_
      refine lv_bipush (pc := 41) (v := 8) hx hb dX4_eventHere_41 (by decide) ?_
      refine lv_iconst (pc := 43) (v := 0) hx hb dX4_eventHere_43 (by decide) ?_
      obtain ⟨w7, hc8, hd⟩ := wt_bd_o hd
      refine kX4_isWord (pc := 44) hx hb hml hown hts hK hJ hW hS hc8 hl.1 (Nat.le_of_ble_eq_true rfl) ⟨Nat.le_of_ble_eq_true rfl, Nat.le_of_ble_eq_true rfl⟩ ⟨Nat.le_refl _, Nat.le_refl _⟩ dX4_eventHere_44 (fun H locs hW hS => ?_)
      refine lv_if_eq (pc := 47) (tgt := 52) hx hb dX4_eventHere_47 (by decide) (fun c9 => ?_) (fun c9 => ?_)
      · have hd := wt_it hd c9
        refine lv_aload_n (pc := 52) hx hb dX4_eventHere_52 rfl (lv_at hl 0 rfl) ?_
        refine lv_bipush (pc := 53) (v := 23) hx hb dX4_eventHere_53 (by decide) ?_
        refine lv_iconst (pc := 55) (v := 1) hx hb dX4_eventHere_55 (by decide) ?_
        refine lv_bipush (pc := 56) (v := 19) hx hb dX4_eventHere_56 (by decide) ?_
        refine lv_bipush (pc := 58) (v := 8) hx hb dX4_eventHere_58 (by decide) ?_
        refine lv_iconst (pc := 60) (v := 0) hx hb dX4_eventHere_60 (by decide) ?_
        refine lv_iconst (pc := 61) (v := 0) hx hb dX4_eventHere_61 (by decide) ?_
        obtain ⟨w10, hc11, hd⟩ := wt_bd_o hd
        refine kX4_isWord (pc := 62) hx hb hml hown hts hK hJ hW hS hc11 hl.1 (Nat.le_of_ble_eq_true rfl) ⟨Nat.le_of_ble_eq_true rfl, Nat.le_of_ble_eq_true rfl⟩ ⟨Nat.le_refl _, Nat.le_refl _⟩ dX4_eventHere_62 (fun H locs hW hS => ?_)
        refine lv_if_eq (pc := 65) (tgt := 70) hx hb dX4_eventHere_65 (by decide) (fun c12 => ?_) (fun c12 => ?_)
        · have hd := wt_it hd c12
          refine lv_aload_n (pc := 70) hx hb dX4_eventHere_70 rfl (lv_at hl 0 rfl) ?_
          refine lv_bipush (pc := 71) (v := 19) hx hb dX4_eventHere_71 (by decide) ?_
          refine lv_bipush (pc := 73) (v := 8) hx hb dX4_eventHere_73 (by decide) ?_
          refine lv_iconst (pc := 75) (v := 1) hx hb dX4_eventHere_75 (by decide) ?_
          refine lv_bipush (pc := 76) (v := 11) hx hb dX4_eventHere_76 (by decide) ?_
          refine lv_iconst (pc := 78) (v := 5) hx hb dX4_eventHere_78 (by decide) ?_
          refine lv_iconst (pc := 79) (v := 0) hx hb dX4_eventHere_79 (by decide) ?_
          obtain ⟨w13, hc14, hd⟩ := wt_bd_o hd
          refine kX4_isWord (pc := 80) hx hb hml hown hts hK hJ hW hS hc14 hl.1 (Nat.le_of_ble_eq_true rfl) ⟨Nat.le_of_ble_eq_true rfl, Nat.le_of_ble_eq_true rfl⟩ ⟨Nat.le_refl _, Nat.le_refl _⟩ dX4_eventHere_80 (fun H locs hW hS => ?_)
          refine lv_if_eq (pc := 83) (tgt := 90) hx hb dX4_eventHere_83 (by decide) (fun c15 => ?_) (fun c15 => ?_)
          · have hd := wt_it hd c15
            refine lv_iconst (pc := 90) (v := -1) hx hb dX4_eventHere_90 (by decide) ?_
            exact mr_iret hx hb hr rfl hlocks (wt_p1 hd) (wt_p2 hd) hW hK hS dX4_eventHere_91
          · have hd := wt_if hd c15
            refine lv_iconst (pc := 86) (v := 4) hx hb dX4_eventHere_86 (by decide) ?_
            refine lv_goto (pc := 87) (tgt := 91) hx hb dX4_eventHere_87 (by decide) ?_
            exact mr_iret hx hb hr rfl hlocks (wt_p1 hd) (wt_p2 hd) hW hK hS dX4_eventHere_91
        · have hd := wt_if hd c12
          refine lv_iconst (pc := 68) (v := 3) hx hb dX4_eventHere_68 (by decide) ?_
          exact mr_iret hx hb hr rfl hlocks (wt_p1 hd) (wt_p2 hd) hW hK hS dX4_eventHere_69
      · have hd := wt_if hd c9
        refine lv_iconst (pc := 50) (v := 2) hx hb dX4_eventHere_50 (by decide) ?_
        exact mr_iret hx hb hr rfl hlocks (wt_p1 hd) (wt_p2 hd) hW hK hS dX4_eventHere_51
    · have hd := wt_if hd c6
      refine lv_iconst (pc := 31) (v := 1) hx hb dX4_eventHere_31 (by decide) ?_
      exact mr_iret hx hb hr rfl hlocks (wt_p1 hd) (wt_p2 hd) hW hK hS dX4_eventHere_32
  · have hd := wt_if hd c3
    refine lv_iconst (pc := 15) (v := 0) hx hb dX4_eventHere_15 (by decide) ?_
    exact mr_iret hx hb hr rfl hlocks (wt_p1 hd) (wt_p2 hd) hW hK hS dX4_eventHere_16
theorem kX4_eventHere {p : Program} {l : Launch} {e : Env} {R : Room} {s : State} {m : MethodId} {args : Array Value} {below : List Frame} {meth : Method} {c : Code} {H : Heap} {locs : List Loc} {cells slots : Nat} {Q : State → Prop} {cc : ByteArray} {pc : Nat} {ls : Array Slot} {rest : List Value} {H0 : Heap} {nL : Nat} {X : MPar} {lo hi : Nat} {σ : MSt}  {out_ : Int32 × MSt} (hx : p.tables.exec = Jvm.exec) (hb : c.code = cc) (hml : c.maxLocals = nL) (hown : s.vm.findClass RX4 = some m.cls) (hts : ∀ w ∈ lw_all, w.before args s = true) (hK : mK X s) (hJ : mJ X lo hi) (hW : mW X σ H) (hS : va_S (mA lo hi) H0 H locs) (hd : dX4_eventHere σ = some out_) (hsz : ls.size = nL) (hrm : (rest.map fun v => v.category).sum ≤ 8) (hR : 5 ≤ R.frames ∧ 109 ≤ R.locals) (hcs : cells ≤ R.cells ∧ slots ≤ R.slots) (hdg : decode cc pc = .ok (.invokevirtual 189, 3)) (kk : ∀ (H1 : Heap) (locs1 : List Loc), mW X out_.2 H1 → va_S (mA lo hi) H0 H1 locs1 → W p l e R s m args below meth c H1 locs1 cells slots Q (F0 m (pc + 3) ls (.int out_.1 :: rest))) : W p l e R s m args below meth c H locs cells slots Q (F0 m pc ls (.ref X.1.1 :: rest)) := by
  refine va_calli (va_runV (As := []) (rest := rest) ⟨hx, hb, hml, hown, hts⟩ (wX4_eventHere l hJ hd) (cwV 0 hts (lw_V q1761 q1763 qs38 q88 q1764) rfl rfl rfl (by decide +kernel) hR) (mr_pre hK hW) rfl rfl hsz rfl (lv_room hrm) hdg hcs) hS (fun _ _ h => h) (fun _ h => h) (fun r u t H1 locs1 ht hvm hp hB hz hk hS1 => ?_)
  have hp : r = out_.1 := hp
  subst hp
  have hW1 : mW X out_.2 t.heap := hB.1
  rw [ht] at hW1
  exact kk H1 locs1 hW1 hS1
noncomputable def dX4_eventAt (σ : MSt) (a0 : Int32) : Option (MSt) :=
  wt_bd (dX4_eventHere σ) fun w1 => wt_bd (if w1.1 = (-1 : Int32) then (wt_bd (dX4_wrong w1.2 (1 : Int32) (w1.2.1 4)) fun w11 => some (w11)) else (if a0 = (20 : Int32) then (wt_bd (dX4_wrong w1.2 (3 : Int32) (w1.2.1 4)) fun w9 => some (w9)) else (some (w1.2)))) fun w3 => if (w3.1 5) = 0 then (wt_bd (dX4_skipWord w3) fun w14 => wt_ck (vp_in a0 21) <| wt_ck (vp_in (0 : Int32) 4) <| wt_lt (m_sG w14 27 (a0.toNatClampNeg) (0 : Int32).toNatClampNeg w1.1) fun σ18 => wt_bd (dX4_number σ18 (0 : Int32) (9 : Int32) (-1 : Int32)) fun w19 => wt_ck (vp_in (1 : Int32) 4) <| wt_lt (m_sG w19.2 27 (a0.toNatClampNeg) (1 : Int32).toNatClampNeg w19.1) fun σ22 => wt_bd (if w1.1 = 0 then (wt_bd (dX4_number σ22 (0 : Int32) (7 : Int32) (-1 : Int32)) fun w35 => some (w35.1, w35.2)) else (if w1.1 = (2 : Int32) then (wt_ck (vp_in (1 : Int32) 4) <| wt_bd (dX4_number σ22 (0 : Int32) (9 : Int32) (σ22.2.2 27 (a0.toNatClampNeg) (1 : Int32).toNatClampNeg)) fun w33 => some (w33.1, w33.2)) else (if w1.1 = (4 : Int32) then (wt_bd (dX4_number σ22 (0 : Int32) (16 : Int32) (-1 : Int32)) fun w30 => some (w30.1, w30.2)) else (some ((0 : Int32), σ22))))) fun w23 => wt_ck (vp_in (2 : Int32) 4) <| wt_lt (m_sG w23.2 27 (a0.toNatClampNeg) (2 : Int32).toNatClampNeg w23.1) fun σ38 => wt_bd (if (σ38.1 5) = 0 then (wt_bd (dX4_isWord σ38 (1 : Int32) (20 : Int32) (0 : Int32) (0 : Int32) (0 : Int32) (0 : Int32)) fun w44 => if w44.1 = 0 then (some (.inl w44.2)) else (wt_bd (dX4_skipWord w44.2) fun w47 => wt_bd (if (w47.1 5) = 0 then (wt_bd (dX4_blanks w47) fun w54 => some (w54)) else (some (w47))) fun w49 => wt_lt ((w49.1 4)) fun n56 => wt_bd (dX4_number w49 (0 : Int32) (99 : Int32) (-1 : Int32)) fun w57 => wt_ck (vp_in (3 : Int32) 4) <| wt_lt (m_sG w57.2 27 (a0.toNatClampNeg) (3 : Int32).toNatClampNeg w57.1) fun σ60 => wt_bd (if (σ60.1 5) = 0 then (if a0 ≤ 0 then (some (σ60)) else (wt_ck (vp_in (3 : Int32) 4) <| wt_ck (vp_in (a0 - (1 : Int32)) 21) <| wt_ck (vp_in (3 : Int32) 4) <| if (σ60.2.2 27 (((a0 - (1 : Int32))).toNatClampNeg) (3 : Int32).toNatClampNeg) ≤ (σ60.2.2 27 (a0.toNatClampNeg) (3 : Int32).toNatClampNeg) then (some (σ60)) else (wt_bd (dX4_wrong σ60 (3 : Int32) n56) fun w71 => some (w71)))) else (some (σ60))) fun w61 => wt_bd (dX4_sign w61 (59 : Int32)) fun w73 => some (.inr (w73)))) else (some (.inl σ38))) fun w39 => wt_rs w39 (fun w39 => wt_bd (dX4_wrong w39 (1 : Int32) (w39.1 4)) fun w75 => wt_bd (if (w75.1 5) = 0 then (wt_bd (dX4_blanks w75) fun w82 => some (w82)) else (some (w75))) fun w77 => wt_lt ((w77.1 4)) fun n84 => wt_bd (dX4_number w77 (0 : Int32) (99 : Int32) (-1 : Int32)) fun w85 => wt_ck (vp_in (3 : Int32) 4) <| wt_lt (m_sG w85.2 27 (a0.toNatClampNeg) (3 : Int32).toNatClampNeg w85.1) fun σ88 => wt_bd (if (σ88.1 5) = 0 then (if a0 ≤ 0 then (some (σ88)) else (wt_ck (vp_in (3 : Int32) 4) <| wt_ck (vp_in (a0 - (1 : Int32)) 21) <| wt_ck (vp_in (3 : Int32) 4) <| if (σ88.2.2 27 (((a0 - (1 : Int32))).toNatClampNeg) (3 : Int32).toNatClampNeg) ≤ (σ88.2.2 27 (a0.toNatClampNeg) (3 : Int32).toNatClampNeg) then (some (σ88)) else (wt_bd (dX4_wrong σ88 (3 : Int32) n84) fun w99 => some (w99)))) else (some (σ88))) fun w89 => wt_bd (dX4_sign w89 (59 : Int32)) fun w101 => some w101) (fun z_ => some z_)) else (some w3)
set_option maxHeartbeats 4000000 in
theorem wX4_eventAt (l : Launch) {X : MPar} {lo hi : Nat} (hJ : mJ X lo hi) {σ : MSt} {a0 : Int32} {out_ : MSt} (hd : dX4_eventAt σ a0 = some out_) : Met l yX4_eventAt (ws_ yX4_eventAt cX4_eventAt 5 none) ({ frames := 5, cells := 0, slots := 0, locals := 109 }) (mP X σ [.ref X.1.1, .int a0]) (mQv X out_ (mA lo hi)) 0 0 (mA lo hi) := by
  refine Met.ofW (cc := cX4_eventAt) (maxL := 5) (ret := none) (by decide) rfl ?_
  intro p_ e_ s_ m_ args_ below_ meth_ c_ s₁_ B hml hv
  obtain ⟨rfl, hW, hK⟩ := hv
  have hx := B.exec
  have hb := B.bytes
  have hr := B.returns
  have hts := atoms_spec (ws := (ws_ yX4_eventAt cX4_eventAt 5 none)) B.pre
  have hts : ∀ w ∈ lw_all, w.before _ s_ = true := fun w h => hts w (List.mem_cons_of_mem _ h)
  have hown : s_.vm.findClass RX4 = some m_.cls := findClass_of_methodNamed B.named
  have hlocks := B.notSynchronized
  have hS : va_S (mA lo hi) s_.heap s_.heap [] := va_S.rf
  have hl := lv_entry ([.ref X.1.1, .int a0]) (n := 5) (Nat.le_of_ble_eq_true rfl)
  rw [lg_entry_eq]
  generalize (lg_sl ([.ref X.1.1, .int a0]) ++ List.replicate (5 - (lg_sl ([.ref X.1.1, .int a0])).length) Slot.unset).toArray = ls at hl ⊢
  have hl : lv_has ls 5 [(0, .ref X.1.1), (1, .int a0)] := hl
  unfold dX4_eventAt at hd
  refine lv_aload_n (pc := 0) hx hb dX4_eventAt_0 rfl (lv_at hl 0 rfl) ?_
  obtain ⟨w1, hc2, hd⟩ := wt_bd_o hd
  refine kX4_eventHere (pc := 1) hx hb hml hown hts hK hJ hW hS hc2 hl.1 (Nat.le_of_ble_eq_true rfl) ⟨Nat.le_of_ble_eq_true rfl, Nat.le_of_ble_eq_true rfl⟩ ⟨Nat.le_refl _, Nat.le_refl _⟩ dX4_eventAt_1 (fun H locs hW hS => ?_)
  refine lv_istore_n (pc := 4) (lv' := [(2, .int w1.1), (0, .ref X.1.1), (1, .int a0)]) hx hb dX4_eventAt_4 rfl hl (by decide) rfl (fun ls hl => ?_)
  refine lv_iload_n (pc := 5) hx hb dX4_eventAt_5 rfl (lv_at hl 0 rfl) ?_
  refine lv_iconst (pc := 6) (v := -1) hx hb dX4_eventAt_6 (by decide) ?_
  obtain ⟨w3, hj4, hq5⟩ := wt_bd_o hd
  have hX6 : ∀ w3_ : MSt, w3_ = w3 → ∀ (H : Heap) (locs : List Loc) (ls : Array Slot), mW X w3_ H → va_S (mA lo hi) s_.heap H locs → lv_has ls 5 [(0, .ref X.1.1), (1, .int a0), (2, .int w1.1)] → W p_ l e_ (headSpec (ws_ yX4_eventAt cX4_eventAt 5 none) ({ frames := 5, cells := 0, slots := 0, locals := 109 })).room s_ m_ ([.ref X.1.1, .int a0] : List Value).toArray below_ meth_ c_ H locs 0 0 (MQ below_ (mQv X out_ (mA lo hi)) ([.ref X.1.1, .int a0] : List Value).toArray s_ 0 0 (mA lo hi)) (F0 m_ 37 ls []) := by
    intro w3_ hw_
    have hd := hq5
    subst hw_
    clear hj4 hq5
    intro H locs ls hW hS hl
    refine lv_aload_n (pc := 37) hx hb dX4_eventAt_37 rfl (lv_at hl 0 rfl) ?_
    refine mr_get (pc := 38) (k := 5) (v := .int ((w3_.1 5))) hx hb hts hown hK hW (by decide) rfl q1534 dX4_eventAt_38 ?_
    refine lv_if_eq (pc := 41) (tgt := 45) hx hb dX4_eventAt_41 (by decide) (fun c13 => ?_) (fun c13 => ?_)
    · have hd := wt_it hd c13
      refine lv_aload_n (pc := 45) hx hb dX4_eventAt_45 rfl (lv_at hl 0 rfl) ?_
      obtain ⟨w14, hc15, hd⟩ := wt_bd_o hd
      refine kX4_skipWord (pc := 46) hx hb hml hown hts hK hJ hW hS hc15 hl.1 (Nat.le_of_ble_eq_true rfl) ⟨Nat.le_of_ble_eq_true rfl, Nat.le_of_ble_eq_true rfl⟩ ⟨Nat.le_refl _, Nat.le_refl _⟩ dX4_eventAt_46 (fun H locs hW hS => ?_)
      refine lv_aload_n (pc := 49) hx hb dX4_eventAt_49 rfl (lv_at hl 0 rfl) ?_
      refine mr_get (pc := 50) (k := 27) (v := .ref (X.1.2.1 27)) hx hb hts hown hK hW (by decide) rfl q1556 dX4_eventAt_50 ?_
      refine lv_iload_n (pc := 53) hx hb dX4_eventAt_53 rfl (lv_at hl 1 rfl) ?_
      obtain ⟨h16, hd⟩ := wt_ck_o hd
      refine mr_row (pc := 54) (k := 27) hx hb hK hW rfl h16 dX4_eventAt_54 ?_
      refine lv_astore_n (pc := 55) (lv' := [(3, .ref (X.1.2.2 27 (a0.toNatClampNeg))), (0, .ref X.1.1), (1, .int a0), (2, .int w1.1)]) hx hb dX4_eventAt_55 rfl hl (by decide) rfl (fun ls hl => ?_)
      refine lv_aload_n (pc := 56) hx hb dX4_eventAt_56 rfl (lv_at hl 0 rfl) ?_
      refine lv_iconst (pc := 57) (v := 0) hx hb dX4_eventAt_57 (by decide) ?_
      refine lv_iload_n (pc := 58) hx hb dX4_eventAt_58 rfl (lv_at hl 3 rfl) ?_
      obtain ⟨h17, hd⟩ := wt_ck_o hd
      obtain ⟨σ18, eσ18, hd⟩ := wt_lt_o hd
      refine mr_gst (pc := 59) (k := 27) (i := (a0.toNatClampNeg)) hx hb hK hW hJ hS (vp_lt h16) rfl h17 eσ18 dX4_eventAt_59 (fun H locs hW hS => ?_)
      refine lv_aload_n (pc := 60) hx hb dX4_eventAt_60 rfl (lv_at hl 0 rfl) ?_
      refine lv_iconst (pc := 61) (v := 1) hx hb dX4_eventAt_61 (by decide) ?_
      refine lv_aload_n (pc := 62) hx hb dX4_eventAt_62 rfl (lv_at hl 1 rfl) ?_
      refine lv_iconst (pc := 63) (v := 0) hx hb dX4_eventAt_63 (by decide) ?_
      refine lv_bipush (pc := 64) (v := 9) hx hb dX4_eventAt_64 (by decide) ?_
      refine lv_iconst (pc := 66) (v := -1) hx hb dX4_eventAt_66 (by decide) ?_
      obtain ⟨w19, hc20, hd⟩ := wt_bd_o hd
      refine kX4_number (pc := 67) hx hb hml hown hts hK hJ hW hS hc20 hl.1 (Nat.le_of_ble_eq_true rfl) ⟨Nat.le_of_ble_eq_true rfl, Nat.le_of_ble_eq_true rfl⟩ ⟨Nat.le_refl _, Nat.le_refl _⟩ dX4_eventAt_67 (fun H locs hW hS => ?_)
      obtain ⟨h21, hd⟩ := wt_ck_o hd
      obtain ⟨σ22, eσ22, hd⟩ := wt_lt_o hd
      refine mr_gst (pc := 70) (k := 27) (i := (a0.toNatClampNeg)) hx hb hK hW hJ hS (vp_lt h16) rfl h21 eσ22 dX4_eventAt_70 (fun H locs hW hS => ?_)
      refine lv_aload_n (pc := 71) hx hb dX4_eventAt_71 rfl (lv_at hl 0 rfl) ?_
      refine lv_iconst (pc := 72) (v := 2) hx hb dX4_eventAt_72 (by decide) ?_
      refine lv_iload_n (pc := 73) hx hb dX4_eventAt_73 rfl (lv_at hl 3 rfl) ?_
      obtain ⟨w23, hj24, hq25⟩ := wt_bd_o hd
      have hX26 : ∀ w23_ : Int32 × MSt, w23_ = w23 → ∀ (H : Heap) (locs : List Loc) (ls : Array Slot), mW X w23_.2 H → va_S (mA lo hi) s_.heap H locs → lv_has ls 5 [(0, .ref X.1.1), (1, .int a0), (3, .ref (X.1.2.2 27 (a0.toNatClampNeg)))] → W p_ l e_ (headSpec (ws_ yX4_eventAt cX4_eventAt 5 none) ({ frames := 5, cells := 0, slots := 0, locals := 109 })).room s_ m_ ([.ref X.1.1, .int a0] : List Value).toArray below_ meth_ c_ H locs 0 0 (MQ below_ (mQv X out_ (mA lo hi)) ([.ref X.1.1, .int a0] : List Value).toArray s_ 0 0 (mA lo hi)) (F0 m_ 123 ls [.int w23_.1, .int (2 : Int32), .ref (X.1.2.2 27 (a0.toNatClampNeg))]) := by
        intro w23_ hw_
        have hd := hq25
        subst hw_
        clear hj24 hq25
        intro H locs ls hW hS hl
        obtain ⟨h37, hd⟩ := wt_ck_o hd
        obtain ⟨σ38, eσ38, hd⟩ := wt_lt_o hd
        refine mr_gst (pc := 123) (k := 27) (i := (a0.toNatClampNeg)) hx hb hK hW hJ hS (vp_lt h16) rfl h37 eσ38 dX4_eventAt_123 (fun H locs hW hS => ?_)
        refine lv_aload_n (pc := 124) hx hb dX4_eventAt_124 rfl (lv_at hl 0 rfl) ?_
        refine mr_get (pc := 125) (k := 5) (v := .int ((σ38.1 5))) hx hb hts hown hK hW (by decide) rfl q1534 dX4_eventAt_125 ?_
        obtain ⟨w39, hj40, hq41⟩ := wt_bd_o hd
        have hX42 : ∀ w39_ : MSt, (Sum.inl w39_ : MSt ⊕ _) = w39 → ∀ (H : Heap) (locs : List Loc) (ls : Array Slot), mW X w39_ H → va_S (mA lo hi) s_.heap H locs → lv_has ls 5 [(0, .ref X.1.1), (1, .int a0), (3, .ref (X.1.2.2 27 (a0.toNatClampNeg)))] → W p_ l e_ (headSpec (ws_ yX4_eventAt cX4_eventAt 5 none) ({ frames := 5, cells := 0, slots := 0, locals := 109 })).room s_ m_ ([.ref X.1.1, .int a0] : List Value).toArray below_ meth_ c_ H locs 0 0 (MQ below_ (mQv X out_ (mA lo hi)) ([.ref X.1.1, .int a0] : List Value).toArray s_ 0 0 (mA lo hi)) (F0 m_ 152 ls []) := by
          intro w39_ hw_
          have hd := wt_rs_l hw_ hq41
          clear hj40 hq41
          intro H locs ls hW hS hl
          refine lv_aload_n (pc := 152) hx hb dX4_eventAt_152 rfl (lv_at hl 0 rfl) ?_
          refine lv_iconst (pc := 153) (v := 1) hx hb dX4_eventAt_153 (by decide) ?_
          refine lv_aload_n (pc := 154) hx hb dX4_eventAt_154 rfl (lv_at hl 0 rfl) ?_
          refine mr_get (pc := 155) (k := 4) (v := .int ((w39_.1 4))) hx hb hts hown hK hW (by decide) rfl q1533 dX4_eventAt_155 ?_
          obtain ⟨w75, hc76, hd⟩ := wt_bd_o hd
          refine kX4_wrong (pc := 158) hx hb hml hown hts hK hJ hW hS hc76 hl.1 (Nat.le_of_ble_eq_true rfl) ⟨Nat.le_of_ble_eq_true rfl, Nat.le_of_ble_eq_true rfl⟩ ⟨Nat.le_refl _, Nat.le_refl _⟩ dX4_eventAt_158 (fun H locs hW hS => ?_)
          refine lv_aload_n (pc := 161) hx hb dX4_eventAt_161 rfl (lv_at hl 0 rfl) ?_
          refine mr_get (pc := 162) (k := 5) (v := .int ((w75.1 5))) hx hb hts hown hK hW (by decide) rfl q1534 dX4_eventAt_162 ?_
          obtain ⟨w77, hj78, hq79⟩ := wt_bd_o hd
          have hX80 : ∀ w77_ : MSt, w77_ = w77 → ∀ (H : Heap) (locs : List Loc) (ls : Array Slot), mW X w77_ H → va_S (mA lo hi) s_.heap H locs → lv_has ls 5 [(0, .ref X.1.1), (1, .int a0), (3, .ref (X.1.2.2 27 (a0.toNatClampNeg)))] → W p_ l e_ (headSpec (ws_ yX4_eventAt cX4_eventAt 5 none) ({ frames := 5, cells := 0, slots := 0, locals := 109 })).room s_ m_ ([.ref X.1.1, .int a0] : List Value).toArray below_ meth_ c_ H locs 0 0 (MQ below_ (mQv X out_ (mA lo hi)) ([.ref X.1.1, .int a0] : List Value).toArray s_ 0 0 (mA lo hi)) (F0 m_ 172 ls []) := by
            intro w77_ hw_
            have hd := hq79
            subst hw_
            clear hj78 hq79
            intro H locs ls hW hS hl
            refine lv_aload_n (pc := 172) hx hb dX4_eventAt_172 rfl (lv_at hl 0 rfl) ?_
            refine mr_get (pc := 173) (k := 4) (v := .int ((w77_.1 4))) hx hb hts hown hK hW (by decide) rfl q1533 dX4_eventAt_173 ?_
            obtain ⟨n84, en84, hd⟩ := wt_lt_o hd
            refine lv_tope en84 ?_
            refine lv_istore (pc := 176) (lv' := [(4, .int n84), (0, .ref X.1.1), (1, .int a0), (3, .ref (X.1.2.2 27 (a0.toNatClampNeg)))]) hx hb dX4_eventAt_176 hl (by decide) rfl (fun ls hl => ?_)
            refine lv_aload_n (pc := 178) hx hb dX4_eventAt_178 rfl (lv_at hl 3 rfl) ?_
            refine lv_iconst (pc := 179) (v := 3) hx hb dX4_eventAt_179 (by decide) ?_
            refine lv_aload_n (pc := 180) hx hb dX4_eventAt_180 rfl (lv_at hl 1 rfl) ?_
            refine lv_iconst (pc := 181) (v := 0) hx hb dX4_eventAt_181 (by decide) ?_
            refine lv_bipush (pc := 182) (v := 99) hx hb dX4_eventAt_182 (by decide) ?_
            refine lv_iconst (pc := 184) (v := -1) hx hb dX4_eventAt_184 (by decide) ?_
            obtain ⟨w85, hc86, hd⟩ := wt_bd_o hd
            refine kX4_number (pc := 185) hx hb hml hown hts hK hJ hW hS hc86 hl.1 (Nat.le_of_ble_eq_true rfl) ⟨Nat.le_of_ble_eq_true rfl, Nat.le_of_ble_eq_true rfl⟩ ⟨Nat.le_refl _, Nat.le_refl _⟩ dX4_eventAt_185 (fun H locs hW hS => ?_)
            obtain ⟨h87, hd⟩ := wt_ck_o hd
            obtain ⟨σ88, eσ88, hd⟩ := wt_lt_o hd
            refine mr_gst (pc := 188) (k := 27) (i := (a0.toNatClampNeg)) hx hb hK hW hJ hS (vp_lt h16) rfl h87 eσ88 dX4_eventAt_188 (fun H locs hW hS => ?_)
            refine lv_aload_n (pc := 189) hx hb dX4_eventAt_189 rfl (lv_at hl 1 rfl) ?_
            refine mr_get (pc := 190) (k := 5) (v := .int ((σ88.1 5))) hx hb hts hown hK hW (by decide) rfl q1534 dX4_eventAt_190 ?_
            obtain ⟨w89, hj90, hq91⟩ := wt_bd_o hd
            have hX92 : ∀ w89_ : MSt, w89_ = w89 → ∀ (H : Heap) (locs : List Loc) (ls : Array Slot), mW X w89_ H → va_S (mA lo hi) s_.heap H locs → lv_has ls 5 [(0, .ref X.1.1)] → W p_ l e_ (headSpec (ws_ yX4_eventAt cX4_eventAt 5 none) ({ frames := 5, cells := 0, slots := 0, locals := 109 })).room s_ m_ ([.ref X.1.1, .int a0] : List Value).toArray below_ meth_ c_ H locs 0 0 (MQ below_ (mQv X out_ (mA lo hi)) ([.ref X.1.1, .int a0] : List Value).toArray s_ 0 0 (mA lo hi)) (F0 m_ 223 ls []) := by
              intro w89_ hw_
              have hd := hq91
              subst hw_
              clear hj90 hq91
              intro H locs ls hW hS hl
              refine lv_aload_n (pc := 223) hx hb dX4_eventAt_223 rfl (lv_at hl 0 rfl) ?_
              refine lv_bipush (pc := 224) (v := 59) hx hb dX4_eventAt_224 (by decide) ?_
              obtain ⟨w101, hc102, hd⟩ := wt_bd_o hd
              refine kX4_sign (pc := 226) hx hb hml hown hts hK hJ hW hS hc102 hl.1 (Nat.le_of_ble_eq_true rfl) ⟨Nat.le_of_ble_eq_true rfl, Nat.le_of_ble_eq_true rfl⟩ ⟨Nat.le_refl _, Nat.le_refl _⟩ dX4_eventAt_226 (fun H locs hW hS => ?_)
              exact mr_vret hx hb hr hlocks (Option.some.inj hd) hW hK hS dX4_eventAt_229
            have hd := hj90
            refine lv_if_ne (pc := 193) (tgt := 223) hx hb dX4_eventAt_193 (by decide) (fun c93 => ?_) (fun c93 => ?_)
            · have hd := wt_if hd c93
              exact hX92 σ88 (Option.some.inj hd) _ _ _ hW hS (lv_sub hl [1] rfl)
            · have hd := wt_it hd c93
              refine lv_iload_n (pc := 196) hx hb dX4_eventAt_196 rfl (lv_at hl 2 rfl) ?_
              refine lv_if_le (pc := 197) (tgt := 223) hx hb dX4_eventAt_197 (by decide) (fun c94 => ?_) (fun c94 => ?_)
              · have hd := wt_it hd c94
                exact hX92 σ88 (Option.some.inj hd) _ _ _ hW hS (lv_sub hl [1] rfl)
              · have hd := wt_if hd c94
                refine lv_aload_n (pc := 200) hx hb dX4_eventAt_200 rfl (lv_at hl 3 rfl) ?_
                refine lv_iconst (pc := 201) (v := 3) hx hb dX4_eventAt_201 (by decide) ?_
                obtain ⟨h95, hd⟩ := wt_ck_o hd
                refine mr_gld (pc := 202) (k := 27) (i := (a0.toNatClampNeg)) hx hb hK hW (vp_lt h16) rfl h95 dX4_eventAt_202 ?_
                refine lv_aload_n (pc := 203) hx hb dX4_eventAt_203 rfl (lv_at hl 1 rfl) ?_
                refine mr_get (pc := 204) (k := 27) (v := .ref (X.1.2.1 27)) hx hb hts hown hK hW (by decide) rfl q1556 dX4_eventAt_204 ?_
                refine lv_iload_n (pc := 207) hx hb dX4_eventAt_207 rfl (lv_at hl 2 rfl) ?_
                refine lv_iconst (pc := 208) (v := 1) hx hb dX4_eventAt_208 (by decide) ?_
                refine lv_isub (pc := 209) hx hb dX4_eventAt_209 ?_
                obtain ⟨h96, hd⟩ := wt_ck_o hd
                refine mr_row (pc := 210) (k := 27) hx hb hK hW rfl h96 dX4_eventAt_210 ?_
                refine lv_iconst (pc := 211) (v := 3) hx hb dX4_eventAt_211 (by decide) ?_
                obtain ⟨h97, hd⟩ := wt_ck_o hd
                refine mr_gld (pc := 212) (k := 27) (i := (((a0 - (1 : Int32))).toNatClampNeg)) hx hb hK hW (vp_lt h96) rfl h97 dX4_eventAt_212 ?_
                refine lv_icmp_ge (pc := 213) (tgt := 223) hx hb dX4_eventAt_213 (by decide) (fun c98 => ?_) (fun c98 => ?_)
                · have hd := wt_it hd c98
                  exact hX92 σ88 (Option.some.inj hd) _ _ _ hW hS (lv_sub hl [1] rfl)
                · have hd := wt_if hd c98
                  refine lv_aload_n (pc := 216) hx hb dX4_eventAt_216 rfl (lv_at hl 1 rfl) ?_
                  refine lv_iconst (pc := 217) (v := 3) hx hb dX4_eventAt_217 (by decide) ?_
                  refine lv_iload (pc := 218) hx hb dX4_eventAt_218 (lv_at hl 0 rfl) ?_
                  obtain ⟨w99, hc100, hd⟩ := wt_bd_o hd
                  refine kX4_wrong (pc := 220) hx hb hml hown hts hK hJ hW hS hc100 hl.1 (Nat.le_of_ble_eq_true rfl) ⟨Nat.le_of_ble_eq_true rfl, Nat.le_of_ble_eq_true rfl⟩ ⟨Nat.le_refl _, Nat.le_refl _⟩ dX4_eventAt_220 (fun H locs hW hS => ?_)
                  exact hX92 w99 (Option.some.inj hd) _ _ _ hW hS (lv_sub hl [1] rfl)
          have hd := hj78
          refine lv_if_ne (pc := 165) (tgt := 172) hx hb dX4_eventAt_165 (by decide) (fun c81 => ?_) (fun c81 => ?_)
          · have hd := wt_if hd c81
            exact hX80 w75 (Option.some.inj hd) _ _ _ hW hS hl
          · have hd := wt_it hd c81
            refine lv_aload_n (pc := 168) hx hb dX4_eventAt_168 rfl (lv_at hl 0 rfl) ?_
            obtain ⟨w82, hc83, hd⟩ := wt_bd_o hd
            refine kX4_blanks (pc := 169) hx hb hml hown hts hK hJ hW hS hc83 hl.1 (Nat.le_of_ble_eq_true rfl) ⟨Nat.le_of_ble_eq_true rfl, Nat.le_of_ble_eq_true rfl⟩ ⟨Nat.le_refl _, Nat.le_refl _⟩ dX4_eventAt_169 (fun H locs hW hS => ?_)
            exact hX80 w82 (Option.some.inj hd) _ _ _ hW hS hl
        have hd := hj40
        refine lv_if_ne (pc := 128) (tgt := 152) hx hb dX4_eventAt_128 (by decide) (fun c43 => ?_) (fun c43 => ?_)
        · have hd := wt_if hd c43
          exact hX42 σ38 (Option.some.inj hd) _ _ _ hW hS hl
        · have hd := wt_it hd c43
          refine lv_aload_n (pc := 131) hx hb dX4_eventAt_131 rfl (lv_at hl 0 rfl) ?_
          refine lv_iconst (pc := 132) (v := 1) hx hb dX4_eventAt_132 (by decide) ?_
          refine lv_bipush (pc := 133) (v := 20) hx hb dX4_eventAt_133 (by decide) ?_
          refine lv_iconst (pc := 135) (v := 0) hx hb dX4_eventAt_135 (by decide) ?_
          refine lv_iconst (pc := 136) (v := 0) hx hb dX4_eventAt_136 (by decide) ?_
          refine lv_iconst (pc := 137) (v := 0) hx hb dX4_eventAt_137 (by decide) ?_
          refine lv_iconst (pc := 138) (v := 0) hx hb dX4_eventAt_138 (by decide) ?_
          obtain ⟨w44, hc45, hd⟩ := wt_bd_o hd
          refine kX4_isWord (pc := 139) hx hb hml hown hts hK hJ hW hS hc45 hl.1 (Nat.le_of_ble_eq_true rfl) ⟨Nat.le_of_ble_eq_true rfl, Nat.le_of_ble_eq_true rfl⟩ ⟨Nat.le_refl _, Nat.le_refl _⟩ dX4_eventAt_139 (fun H locs hW hS => ?_)
          refine lv_if_eq (pc := 142) (tgt := 152) hx hb dX4_eventAt_142 (by decide) (fun c46 => ?_) (fun c46 => ?_)
          · have hd := wt_it hd c46
            exact hX42 w44.2 (Option.some.inj hd) _ _ _ hW hS hl
          · have hd := wt_if hd c46
            refine lv_aload_n (pc := 145) hx hb dX4_eventAt_145 rfl (lv_at hl 0 rfl) ?_
            obtain ⟨w47, hc48, hd⟩ := wt_bd_o hd
            refine kX4_skipWord (pc := 146) hx hb hml hown hts hK hJ hW hS hc48 hl.1 (Nat.le_of_ble_eq_true rfl) ⟨Nat.le_of_ble_eq_true rfl, Nat.le_of_ble_eq_true rfl⟩ ⟨Nat.le_refl _, Nat.le_refl _⟩ dX4_eventAt_146 (fun H locs hW hS => ?_)
            refine lv_goto (pc := 149) (tgt := 161) hx hb dX4_eventAt_149 (by decide) ?_
            refine lv_aload_n (pc := 161) hx hb dX4_eventAt_161 rfl (lv_at hl 0 rfl) ?_
            refine mr_get (pc := 162) (k := 5) (v := .int ((w47.1 5))) hx hb hts hown hK hW (by decide) rfl q1534 dX4_eventAt_162 ?_
            obtain ⟨w49, hj50, hq51⟩ := wt_bd_o hd
            have hX52 : ∀ w49_ : MSt, w49_ = w49 → ∀ (H : Heap) (locs : List Loc) (ls : Array Slot), mW X w49_ H → va_S (mA lo hi) s_.heap H locs → lv_has ls 5 [(0, .ref X.1.1), (1, .int a0), (3, .ref (X.1.2.2 27 (a0.toNatClampNeg)))] → W p_ l e_ (headSpec (ws_ yX4_eventAt cX4_eventAt 5 none) ({ frames := 5, cells := 0, slots := 0, locals := 109 })).room s_ m_ ([.ref X.1.1, .int a0] : List Value).toArray below_ meth_ c_ H locs 0 0 (MQ below_ (mQv X out_ (mA lo hi)) ([.ref X.1.1, .int a0] : List Value).toArray s_ 0 0 (mA lo hi)) (F0 m_ 172 ls []) := by
              intro w49_ hw_
              have hd := hq51
              subst hw_
              clear hj50 hq51
              intro H locs ls hW hS hl
              refine lv_aload_n (pc := 172) hx hb dX4_eventAt_172 rfl (lv_at hl 0 rfl) ?_
              refine mr_get (pc := 173) (k := 4) (v := .int ((w49_.1 4))) hx hb hts hown hK hW (by decide) rfl q1533 dX4_eventAt_173 ?_
              obtain ⟨n56, en56, hd⟩ := wt_lt_o hd
              refine lv_tope en56 ?_
              refine lv_istore (pc := 176) (lv' := [(4, .int n56), (0, .ref X.1.1), (1, .int a0), (3, .ref (X.1.2.2 27 (a0.toNatClampNeg)))]) hx hb dX4_eventAt_176 hl (by decide) rfl (fun ls hl => ?_)
              refine lv_aload_n (pc := 178) hx hb dX4_eventAt_178 rfl (lv_at hl 3 rfl) ?_
              refine lv_iconst (pc := 179) (v := 3) hx hb dX4_eventAt_179 (by decide) ?_
              refine lv_aload_n (pc := 180) hx hb dX4_eventAt_180 rfl (lv_at hl 1 rfl) ?_
              refine lv_iconst (pc := 181) (v := 0) hx hb dX4_eventAt_181 (by decide) ?_
              refine lv_bipush (pc := 182) (v := 99) hx hb dX4_eventAt_182 (by decide) ?_
              refine lv_iconst (pc := 184) (v := -1) hx hb dX4_eventAt_184 (by decide) ?_
              obtain ⟨w57, hc58, hd⟩ := wt_bd_o hd
              refine kX4_number (pc := 185) hx hb hml hown hts hK hJ hW hS hc58 hl.1 (Nat.le_of_ble_eq_true rfl) ⟨Nat.le_of_ble_eq_true rfl, Nat.le_of_ble_eq_true rfl⟩ ⟨Nat.le_refl _, Nat.le_refl _⟩ dX4_eventAt_185 (fun H locs hW hS => ?_)
              obtain ⟨h59, hd⟩ := wt_ck_o hd
              obtain ⟨σ60, eσ60, hd⟩ := wt_lt_o hd
              refine mr_gst (pc := 188) (k := 27) (i := (a0.toNatClampNeg)) hx hb hK hW hJ hS (vp_lt h16) rfl h59 eσ60 dX4_eventAt_188 (fun H locs hW hS => ?_)
              refine lv_aload_n (pc := 189) hx hb dX4_eventAt_189 rfl (lv_at hl 1 rfl) ?_
              refine mr_get (pc := 190) (k := 5) (v := .int ((σ60.1 5))) hx hb hts hown hK hW (by decide) rfl q1534 dX4_eventAt_190 ?_
              obtain ⟨w61, hj62, hq63⟩ := wt_bd_o hd
              have hX64 : ∀ w61_ : MSt, w61_ = w61 → ∀ (H : Heap) (locs : List Loc) (ls : Array Slot), mW X w61_ H → va_S (mA lo hi) s_.heap H locs → lv_has ls 5 [(0, .ref X.1.1)] → W p_ l e_ (headSpec (ws_ yX4_eventAt cX4_eventAt 5 none) ({ frames := 5, cells := 0, slots := 0, locals := 109 })).room s_ m_ ([.ref X.1.1, .int a0] : List Value).toArray below_ meth_ c_ H locs 0 0 (MQ below_ (mQv X out_ (mA lo hi)) ([.ref X.1.1, .int a0] : List Value).toArray s_ 0 0 (mA lo hi)) (F0 m_ 223 ls []) := by
                intro w61_ hw_
                have hd := hq63
                subst hw_
                clear hj62 hq63
                intro H locs ls hW hS hl
                refine lv_aload_n (pc := 223) hx hb dX4_eventAt_223 rfl (lv_at hl 0 rfl) ?_
                refine lv_bipush (pc := 224) (v := 59) hx hb dX4_eventAt_224 (by decide) ?_
                obtain ⟨w73, hc74, hd⟩ := wt_bd_o hd
                refine kX4_sign (pc := 226) hx hb hml hown hts hK hJ hW hS hc74 hl.1 (Nat.le_of_ble_eq_true rfl) ⟨Nat.le_of_ble_eq_true rfl, Nat.le_of_ble_eq_true rfl⟩ ⟨Nat.le_refl _, Nat.le_refl _⟩ dX4_eventAt_226 (fun H locs hW hS => ?_)
                have hd := wt_rs_r (Option.some.inj hd) hq41
                exact mr_vret hx hb hr hlocks (Option.some.inj hd) hW hK hS dX4_eventAt_229
              have hd := hj62
              refine lv_if_ne (pc := 193) (tgt := 223) hx hb dX4_eventAt_193 (by decide) (fun c65 => ?_) (fun c65 => ?_)
              · have hd := wt_if hd c65
                exact hX64 σ60 (Option.some.inj hd) _ _ _ hW hS (lv_sub hl [1] rfl)
              · have hd := wt_it hd c65
                refine lv_iload_n (pc := 196) hx hb dX4_eventAt_196 rfl (lv_at hl 2 rfl) ?_
                refine lv_if_le (pc := 197) (tgt := 223) hx hb dX4_eventAt_197 (by decide) (fun c66 => ?_) (fun c66 => ?_)
                · have hd := wt_it hd c66
                  exact hX64 σ60 (Option.some.inj hd) _ _ _ hW hS (lv_sub hl [1] rfl)
                · have hd := wt_if hd c66
                  refine lv_aload_n (pc := 200) hx hb dX4_eventAt_200 rfl (lv_at hl 3 rfl) ?_
                  refine lv_iconst (pc := 201) (v := 3) hx hb dX4_eventAt_201 (by decide) ?_
                  obtain ⟨h67, hd⟩ := wt_ck_o hd
                  refine mr_gld (pc := 202) (k := 27) (i := (a0.toNatClampNeg)) hx hb hK hW (vp_lt h16) rfl h67 dX4_eventAt_202 ?_
                  refine lv_aload_n (pc := 203) hx hb dX4_eventAt_203 rfl (lv_at hl 1 rfl) ?_
                  refine mr_get (pc := 204) (k := 27) (v := .ref (X.1.2.1 27)) hx hb hts hown hK hW (by decide) rfl q1556 dX4_eventAt_204 ?_
                  refine lv_iload_n (pc := 207) hx hb dX4_eventAt_207 rfl (lv_at hl 2 rfl) ?_
                  refine lv_iconst (pc := 208) (v := 1) hx hb dX4_eventAt_208 (by decide) ?_
                  refine lv_isub (pc := 209) hx hb dX4_eventAt_209 ?_
                  obtain ⟨h68, hd⟩ := wt_ck_o hd
                  refine mr_row (pc := 210) (k := 27) hx hb hK hW rfl h68 dX4_eventAt_210 ?_
                  refine lv_iconst (pc := 211) (v := 3) hx hb dX4_eventAt_211 (by decide) ?_
                  obtain ⟨h69, hd⟩ := wt_ck_o hd
                  refine mr_gld (pc := 212) (k := 27) (i := (((a0 - (1 : Int32))).toNatClampNeg)) hx hb hK hW (vp_lt h68) rfl h69 dX4_eventAt_212 ?_
                  refine lv_icmp_ge (pc := 213) (tgt := 223) hx hb dX4_eventAt_213 (by decide) (fun c70 => ?_) (fun c70 => ?_)
                  · have hd := wt_it hd c70
                    exact hX64 σ60 (Option.some.inj hd) _ _ _ hW hS (lv_sub hl [1] rfl)
                  · have hd := wt_if hd c70
                    refine lv_aload_n (pc := 216) hx hb dX4_eventAt_216 rfl (lv_at hl 1 rfl) ?_
                    refine lv_iconst (pc := 217) (v := 3) hx hb dX4_eventAt_217 (by decide) ?_
                    refine lv_iload (pc := 218) hx hb dX4_eventAt_218 (lv_at hl 0 rfl) ?_
                    obtain ⟨w71, hc72, hd⟩ := wt_bd_o hd
                    refine kX4_wrong (pc := 220) hx hb hml hown hts hK hJ hW hS hc72 hl.1 (Nat.le_of_ble_eq_true rfl) ⟨Nat.le_of_ble_eq_true rfl, Nat.le_of_ble_eq_true rfl⟩ ⟨Nat.le_refl _, Nat.le_refl _⟩ dX4_eventAt_220 (fun H locs hW hS => ?_)
                    exact hX64 w71 (Option.some.inj hd) _ _ _ hW hS (lv_sub hl [1] rfl)
            have hd := hj50
            refine lv_if_ne (pc := 165) (tgt := 172) hx hb dX4_eventAt_165 (by decide) (fun c53 => ?_) (fun c53 => ?_)
            · have hd := wt_if hd c53
              exact hX52 w47 (Option.some.inj hd) _ _ _ hW hS hl
            · have hd := wt_it hd c53
              refine lv_aload_n (pc := 168) hx hb dX4_eventAt_168 rfl (lv_at hl 0 rfl) ?_
              obtain ⟨w54, hc55, hd⟩ := wt_bd_o hd
              refine kX4_blanks (pc := 169) hx hb hml hown hts hK hJ hW hS hc55 hl.1 (Nat.le_of_ble_eq_true rfl) ⟨Nat.le_of_ble_eq_true rfl, Nat.le_of_ble_eq_true rfl⟩ ⟨Nat.le_refl _, Nat.le_refl _⟩ dX4_eventAt_169 (fun H locs hW hS => ?_)
              exact hX52 w54 (Option.some.inj hd) _ _ _ hW hS hl
      have hd := hj24
      refine lv_if_ne (pc := 74) (tgt := 88) hx hb dX4_eventAt_74 (by decide) (fun c27 => ?_) (fun c27 => ?_)
      · have hd := wt_if hd c27
        refine lv_iload_n (pc := 88) hx hb dX4_eventAt_88 rfl (lv_at hl 3 rfl) ?_
        refine lv_iconst (pc := 89) (v := 2) hx hb dX4_eventAt_89 (by decide) ?_
        refine lv_icmp_ne (pc := 90) (tgt := 106) hx hb dX4_eventAt_90 (by decide) (fun c28 => ?_) (fun c28 => ?_)
        · have hd := wt_if hd c28
          refine lv_iload_n (pc := 106) hx hb dX4_eventAt_106 rfl (lv_at hl 3 rfl) ?_
          refine lv_iconst (pc := 107) (v := 4) hx hb dX4_eventAt_107 (by decide) ?_
          refine lv_icmp_ne (pc := 108) (tgt := 122) hx hb dX4_eventAt_108 (by decide) (fun c29 => ?_) (fun c29 => ?_)
          · have hd := wt_if hd c29
            refine lv_iconst (pc := 122) (v := 0) hx hb dX4_eventAt_122 (by decide) ?_
            exact hX26 ((0 : Int32), σ22) (Option.some.inj hd) _ _ _ hW hS (lv_sub hl [1, 2, 0] rfl)
          · have hd := wt_it hd c29
            refine lv_aload_n (pc := 111) hx hb dX4_eventAt_111 rfl (lv_at hl 1 rfl) ?_
            refine lv_iconst (pc := 112) (v := 0) hx hb dX4_eventAt_112 (by decide) ?_
            refine lv_bipush (pc := 113) (v := 16) hx hb dX4_eventAt_113 (by decide) ?_
            refine lv_iconst (pc := 115) (v := -1) hx hb dX4_eventAt_115 (by decide) ?_
            obtain ⟨w30, hc31, hd⟩ := wt_bd_o hd
            refine kX4_number (pc := 116) hx hb hml hown hts hK hJ hW hS hc31 hl.1 (Nat.le_of_ble_eq_true rfl) ⟨Nat.le_of_ble_eq_true rfl, Nat.le_of_ble_eq_true rfl⟩ ⟨Nat.le_refl _, Nat.le_refl _⟩ dX4_eventAt_116 (fun H locs hW hS => ?_)
            refine lv_goto (pc := 119) (tgt := 123) hx hb dX4_eventAt_119 (by decide) ?_
            exact hX26 (w30.1, w30.2) (Option.some.inj hd) _ _ _ hW hS (lv_sub hl [1, 2, 0] rfl)
        · have hd := wt_it hd c28
          refine lv_aload_n (pc := 93) hx hb dX4_eventAt_93 rfl (lv_at hl 1 rfl) ?_
          refine lv_iconst (pc := 94) (v := 0) hx hb dX4_eventAt_94 (by decide) ?_
          refine lv_bipush (pc := 95) (v := 9) hx hb dX4_eventAt_95 (by decide) ?_
          refine lv_aload_n (pc := 97) hx hb dX4_eventAt_97 rfl (lv_at hl 0 rfl) ?_
          refine lv_iconst (pc := 98) (v := 1) hx hb dX4_eventAt_98 (by decide) ?_
          obtain ⟨h32, hd⟩ := wt_ck_o hd
          refine mr_gld (pc := 99) (k := 27) (i := (a0.toNatClampNeg)) hx hb hK hW (vp_lt h16) rfl h32 dX4_eventAt_99 ?_
          obtain ⟨w33, hc34, hd⟩ := wt_bd_o hd
          refine kX4_number (pc := 100) hx hb hml hown hts hK hJ hW hS hc34 hl.1 (Nat.le_of_ble_eq_true rfl) ⟨Nat.le_of_ble_eq_true rfl, Nat.le_of_ble_eq_true rfl⟩ ⟨Nat.le_refl _, Nat.le_refl _⟩ dX4_eventAt_100 (fun H locs hW hS => ?_)
          refine lv_goto (pc := 103) (tgt := 123) hx hb dX4_eventAt_103 (by decide) ?_
          exact hX26 (w33.1, w33.2) (Option.some.inj hd) _ _ _ hW hS (lv_sub hl [1, 2, 0] rfl)
      · have hd := wt_it hd c27
        refine lv_aload_n (pc := 77) hx hb dX4_eventAt_77 rfl (lv_at hl 1 rfl) ?_
        refine lv_iconst (pc := 78) (v := 0) hx hb dX4_eventAt_78 (by decide) ?_
        refine lv_bipush (pc := 79) (v := 7) hx hb dX4_eventAt_79 (by decide) ?_
        refine lv_iconst (pc := 81) (v := -1) hx hb dX4_eventAt_81 (by decide) ?_
        obtain ⟨w35, hc36, hd⟩ := wt_bd_o hd
        refine kX4_number (pc := 82) hx hb hml hown hts hK hJ hW hS hc36 hl.1 (Nat.le_of_ble_eq_true rfl) ⟨Nat.le_of_ble_eq_true rfl, Nat.le_of_ble_eq_true rfl⟩ ⟨Nat.le_refl _, Nat.le_refl _⟩ dX4_eventAt_82 (fun H locs hW hS => ?_)
        refine lv_goto (pc := 85) (tgt := 123) hx hb dX4_eventAt_85 (by decide) ?_
        exact hX26 (w35.1, w35.2) (Option.some.inj hd) _ _ _ hW hS (lv_sub hl [1, 2, 0] rfl)
    · have hd := wt_if hd c13
      exact mr_vret hx hb hr hlocks (Option.some.inj hd) hW hK hS dX4_eventAt_44
  have hd := hj4
  refine lv_icmp_ne (pc := 7) (tgt := 22) hx hb dX4_eventAt_7 (by decide) (fun c7 => ?_) (fun c7 => ?_)
  · have hd := wt_if hd c7
    refine lv_iload_n (pc := 22) hx hb dX4_eventAt_22 rfl (lv_at hl 2 rfl) ?_
    refine lv_bipush (pc := 23) (v := 20) hx hb dX4_eventAt_23 (by decide) ?_
    refine lv_icmp_ne (pc := 25) (tgt := 37) hx hb dX4_eventAt_25 (by decide) (fun c8 => ?_) (fun c8 => ?_)
    · have hd := wt_if hd c8
      exact hX6 w1.2 (Option.some.inj hd) _ _ _ hW hS (lv_sub hl [1, 2, 0] rfl)
    · have hd := wt_it hd c8
      refine lv_aload_n (pc := 28) hx hb dX4_eventAt_28 rfl (lv_at hl 1 rfl) ?_
      refine lv_iconst (pc := 29) (v := 3) hx hb dX4_eventAt_29 (by decide) ?_
      refine lv_aload_n (pc := 30) hx hb dX4_eventAt_30 rfl (lv_at hl 1 rfl) ?_
      refine mr_get (pc := 31) (k := 4) (v := .int ((w1.2.1 4))) hx hb hts hown hK hW (by decide) rfl q1533 dX4_eventAt_31 ?_
      obtain ⟨w9, hc10, hd⟩ := wt_bd_o hd
      refine kX4_wrong (pc := 34) hx hb hml hown hts hK hJ hW hS hc10 hl.1 (Nat.le_of_ble_eq_true rfl) ⟨Nat.le_of_ble_eq_true rfl, Nat.le_of_ble_eq_true rfl⟩ ⟨Nat.le_refl _, Nat.le_refl _⟩ dX4_eventAt_34 (fun H locs hW hS => ?_)
      exact hX6 w9 (Option.some.inj hd) _ _ _ hW hS (lv_sub hl [1, 2, 0] rfl)
  · have hd := wt_it hd c7
    refine lv_aload_n (pc := 10) hx hb dX4_eventAt_10 rfl (lv_at hl 1 rfl) ?_
    refine lv_iconst (pc := 11) (v := 1) hx hb dX4_eventAt_11 (by decide) ?_
    refine lv_aload_n (pc := 12) hx hb dX4_eventAt_12 rfl (lv_at hl 1 rfl) ?_
    refine mr_get (pc := 13) (k := 4) (v := .int ((w1.2.1 4))) hx hb hts hown hK hW (by decide) rfl q1533 dX4_eventAt_13 ?_
    obtain ⟨w11, hc12, hd⟩ := wt_bd_o hd
    refine kX4_wrong (pc := 16) hx hb hml hown hts hK hJ hW hS hc12 hl.1 (Nat.le_of_ble_eq_true rfl) ⟨Nat.le_of_ble_eq_true rfl, Nat.le_of_ble_eq_true rfl⟩ ⟨Nat.le_refl _, Nat.le_refl _⟩ dX4_eventAt_16 (fun H locs hW hS => ?_)
    refine lv_goto (pc := 19) (tgt := 37) hx hb dX4_eventAt_19 (by decide) ?_
    exact hX6 w11 (Option.some.inj hd) _ _ _ hW hS (lv_sub hl [1, 2, 0] rfl)
theorem kX4_eventAt {p : Program} {l : Launch} {e : Env} {R : Room} {s : State} {m : MethodId} {args : Array Value} {below : List Frame} {meth : Method} {c : Code} {H : Heap} {locs : List Loc} {cells slots : Nat} {Q : State → Prop} {cc : ByteArray} {pc : Nat} {ls : Array Slot} {rest : List Value} {H0 : Heap} {nL : Nat} {X : MPar} {lo hi : Nat} {σ : MSt} {a0 : Int32} {out_ : MSt} (hx : p.tables.exec = Jvm.exec) (hb : c.code = cc) (hml : c.maxLocals = nL) (hown : s.vm.findClass RX4 = some m.cls) (hts : ∀ w ∈ lw_all, w.before args s = true) (hK : mK X s) (hJ : mJ X lo hi) (hW : mW X σ H) (hS : va_S (mA lo hi) H0 H locs) (hd : dX4_eventAt σ a0 = some out_) (hsz : ls.size = nL) (hrm : (rest.map fun v => v.category).sum ≤ 8) (hR : 6 ≤ R.frames ∧ 133 ≤ R.locals) (hcs : cells ≤ R.cells ∧ slots ≤ R.slots) (hdg : decode cc pc = .ok (.invokevirtual 199, 3)) (kk : ∀ (H1 : Heap) (locs1 : List Loc), mW X out_ H1 → va_S (mA lo hi) H0 H1 locs1 → W p l e R s m args below meth c H1 locs1 cells slots Q (F0 m (pc + 3) ls (rest))) : W p l e R s m args below meth c H locs cells slots Q (F0 m pc ls (.int a0 :: .ref X.1.1 :: rest)) := by
  refine va_callv (va_runV (As := [.int a0]) (rest := rest) ⟨hx, hb, hml, hown, hts⟩ (wX4_eventAt l hJ hd) (cwV 1 hts (lw_V q1757 q1759 qs37 q88 q1760) rfl rfl rfl (by decide +kernel) hR) (mr_pre hK hW) rfl rfl hsz rfl (lv_room hrm) hdg hcs) hS (fun _ _ h => h) (fun _ h => h) (fun u t H1 locs1 ht hvm hp hB hz hk hS1 => ?_)
  have hW1 : mW X out_ t.heap := hB.1
  rw [ht] at hW1
  exact kk H1 locs1 hW1 hS1
noncomputable def bX4_story_1  (v18 : Int32 × MSt) : Option ((Int32 × MSt) ⊕ (Int32 × MSt)) :=
  if (v18.2.1 5) = 0 then (if (v18.2.1 2) ≤ (v18.2.1 4) then (some (.inr (v18.1, v18.2))) else (wt_bd (dX4_eventAt v18.2 v18.1) fun w30 => wt_lt (v18.1 + (1 : Int32)) fun n32 => wt_bd (dX4_blanks w30) fun w33 => some (.inl (n32, w33)))) else (some (.inr (v18.1, v18.2)))
noncomputable def bX4_story_3 (v37 : Int32 × MSt) (v48 : Int32 × MSt) : Option ((Int32 × MSt) ⊕ (MSt)) :=
  if (4 : Int32) ≤ v48.1 then (some (.inr v48.2)) else (wt_ck (vp_in (((20 : Int32) * (v48.2.1 24)) + v37.1) 80) <| wt_ck (vp_in v37.1 21) <| wt_ck (vp_in v48.1 4) <| wt_ck (vp_in v48.1 4) <| wt_lt (m_sG v48.2 26 (((((20 : Int32) * (v48.2.1 24)) + v37.1)).toNatClampNeg) v48.1.toNatClampNeg (v48.2.2.2 27 (v37.1.toNatClampNeg) v48.1.toNatClampNeg)) fun σ63 => wt_lt (v48.1 + (1 : Int32)) fun n64 => some (.inl (n64, σ63)))
noncomputable def bX4_story_2 (w19 : Int32 × MSt) (v37 : Int32 × MSt) : Option ((Int32 × MSt) ⊕ (MSt)) :=
  if w19.1 ≤ v37.1 then (some (.inr v37.2)) else (wt_bd (wt_whC (bX4_story_3 v37) ((0 : Int32), v37.2)) fun w49 => wt_lt (v37.1 + (1 : Int32)) fun n65 => some (.inl (n65, w49)))
noncomputable def dX4_story (σ : MSt) (a0 : Int32) : Option (Int32 × MSt) :=
  wt_lt (m_sF σ 0 (0 : Int32)) fun σ1 => wt_bd (dX4_less (σ1.1 1) (300 : Int32)) fun w2 => wt_bd (dX4_in a0 (0 : Int32) w2) fun w4 => wt_bd (if w4 = 0 then (some (1 : Int32)) else (some (0 : Int32))) fun w6 => wt_bd (dX4_bad σ1 w6 (1 : Int32)) fun w11 => if w11.1 = 0 then (wt_bd (dX4_begins w11.2 a0) fun w14 => wt_lt (m_sF w14 3 (-1 : Int32)) fun σ16 => if (σ16.1 24) = (4 : Int32) then (some ((-1 : Int32), σ16)) else (wt_bd (wt_whC (bX4_story_1) ((0 : Int32), σ16)) fun w19 => wt_lt (m_sF w19.2 3 (w19.2.1 6)) fun σ35 => if (σ35.1 5) = 0 then (wt_bd (wt_whC (bX4_story_2 w19) ((0 : Int32), σ35)) fun w38 => wt_ck (vp_in (w38.1 24) 4) <| wt_lt (m_sA w38 25 (w38.1 24).toNatClampNeg w19.1) fun σ67 => wt_lt (m_sF σ67 24 ((σ67.1 24) + (1 : Int32))) fun σ68 => some (((σ68.1 24) - (1 : Int32)), σ68)) else (some (((σ35.1 5) - (10 : Int32)), σ35)))) else (some ((0 : Int32), w11.2))
set_option maxHeartbeats 4000000 in
theorem wX4_story (l : Launch) {X : MPar} {lo hi : Nat} (hJ : mJ X lo hi) {σ : MSt} {a0 : Int32} {out_ : Int32 × MSt} (hd : dX4_story σ a0 = some out_) : Met l yX4_story (ws_ yX4_story cX4_story 5 (some .int)) ({ frames := 6, cells := 0, slots := 0, locals := 133 }) (mP X σ [.ref X.1.1, .int a0]) (mQi X out_.1 out_.2 (mA lo hi)) 0 0 (mA lo hi) := by
  refine Met.ofW (cc := cX4_story) (maxL := 5) (ret := (some .int)) (by decide) rfl ?_
  intro p_ e_ s_ m_ args_ below_ meth_ c_ s₁_ B hml hv
  obtain ⟨rfl, hW, hK⟩ := hv
  have hx := B.exec
  have hb := B.bytes
  have hr := B.returns
  have hts := atoms_spec (ws := (ws_ yX4_story cX4_story 5 (some .int))) B.pre
  have hts : ∀ w ∈ lw_all, w.before _ s_ = true := fun w h => hts w (List.mem_cons_of_mem _ h)
  have hown : s_.vm.findClass RX4 = some m_.cls := findClass_of_methodNamed B.named
  have hlocks := B.notSynchronized
  have hS : va_S (mA lo hi) s_.heap s_.heap [] := va_S.rf
  have hl := lv_entry ([.ref X.1.1, .int a0]) (n := 5) (Nat.le_of_ble_eq_true rfl)
  rw [lg_entry_eq]
  generalize (lg_sl ([.ref X.1.1, .int a0]) ++ List.replicate (5 - (lg_sl ([.ref X.1.1, .int a0])).length) Slot.unset).toArray = ls at hl ⊢
  have hl : lv_has ls 5 [(0, .ref X.1.1), (1, .int a0)] := hl
  unfold dX4_story at hd
  refine lv_aload_n (pc := 0) hx hb dX4_story_0 rfl (lv_at hl 0 rfl) ?_
  refine lv_iconst (pc := 1) (v := 0) hx hb dX4_story_1 (by decide) ?_
  obtain ⟨σ1, eσ1, hd⟩ := wt_lt_o hd
  refine mr_put (pc := 2) (k := 0) hx hb hts hown hK hW hJ hS (by decide) rfl eσ1 q1529 dX4_story_2 (fun H locs hW hS => ?_)
  refine lv_aload_n (pc := 5) hx hb dX4_story_5 rfl (lv_at hl 0 rfl) ?_
  refine lv_iload_n (pc := 6) hx hb dX4_story_6 rfl (lv_at hl 1 rfl) ?_
  refine lv_iconst (pc := 7) (v := 0) hx hb dX4_story_7 (by decide) ?_
  refine lv_aload_n (pc := 8) hx hb dX4_story_8 rfl (lv_at hl 0 rfl) ?_
  refine mr_get (pc := 9) (k := 1) (v := .int ((σ1.1 1))) hx hb hts hown hK hW (by decide) rfl q1530 dX4_story_9 ?_
  refine lv_sipush (pc := 12) (v := 300) hx hb dX4_story_12 (by decide) ?_
  obtain ⟨w2, hc3, hd⟩ := wt_bd_o hd
  refine kX4_less (pc := 15) hx hb hml hown hts hK hW hS hc3 hl.1 (Nat.le_of_ble_eq_true rfl) ⟨Nat.le_of_ble_eq_true rfl, Nat.le_of_ble_eq_true rfl⟩ ⟨Nat.le_refl _, Nat.le_refl _⟩ dX4_story_15 (fun H locs hW hS => ?_)
  obtain ⟨w4, hc5, hd⟩ := wt_bd_o hd
  refine kX4_in (pc := 18) hx hb hml hown hts hK hW hS hc5 hl.1 (Nat.le_of_ble_eq_true rfl) ⟨Nat.le_of_ble_eq_true rfl, Nat.le_of_ble_eq_true rfl⟩ ⟨Nat.le_refl _, Nat.le_refl _⟩ dX4_story_18 (fun H locs hW hS => ?_)
  obtain ⟨w6, hj7, hq8⟩ := wt_bd_o hd
  have hX9 : ∀ w6_ : Int32, w6_ = w6 → ∀ (H : Heap) (locs : List Loc) (ls : Array Slot), mW X σ1 H → va_S (mA lo hi) s_.heap H locs → lv_has ls 5 [(0, .ref X.1.1), (1, .int a0)] → W p_ l e_ (headSpec (ws_ yX4_story cX4_story 5 (some .int)) ({ frames := 6, cells := 0, slots := 0, locals := 133 })).room s_ m_ ([.ref X.1.1, .int a0] : List Value).toArray below_ meth_ c_ H locs 0 0 (MQ below_ (mQi X out_.1 out_.2 (mA lo hi)) ([.ref X.1.1, .int a0] : List Value).toArray s_ 0 0 (mA lo hi)) (F0 m_ 29 ls [.int w6_, .ref X.1.1]) := by
    intro w6_ hw_
    have hd := hq8
    subst hw_
    clear hj7 hq8
    intro H locs ls hW hS hl
    refine lv_iconst (pc := 29) (v := 1) hx hb dX4_story_29 (by decide) ?_
    obtain ⟨w11, hc12, hd⟩ := wt_bd_o hd
    refine kX4_bad (pc := 30) hx hb hml hown hts hK hJ hW hS hc12 hl.1 (Nat.le_of_ble_eq_true rfl) ⟨Nat.le_of_ble_eq_true rfl, Nat.le_of_ble_eq_true rfl⟩ ⟨Nat.le_refl _, Nat.le_refl _⟩ dX4_story_30 (fun H locs hW hS => ?_)
    refine lv_if_eq (pc := 33) (tgt := 38) hx hb dX4_story_33 (by decide) (fun c13 => ?_) (fun c13 => ?_)
    · have hd := wt_it hd c13
      refine lv_aload_n (pc := 38) hx hb dX4_story_38 rfl (lv_at hl 0 rfl) ?_
      refine lv_iload_n (pc := 39) hx hb dX4_story_39 rfl (lv_at hl 1 rfl) ?_
      obtain ⟨w14, hc15, hd⟩ := wt_bd_o hd
      refine kX4_begins (pc := 40) hx hb hml hown hts hK hJ hW hS hc15 hl.1 (Nat.le_of_ble_eq_true rfl) ⟨Nat.le_of_ble_eq_true rfl, Nat.le_of_ble_eq_true rfl⟩ ⟨Nat.le_refl _, Nat.le_refl _⟩ dX4_story_40 (fun H locs hW hS => ?_)
      refine lv_aload_n (pc := 43) hx hb dX4_story_43 rfl (lv_at hl 0 rfl) ?_
      refine lv_iconst (pc := 44) (v := -1) hx hb dX4_story_44 (by decide) ?_
      obtain ⟨σ16, eσ16, hd⟩ := wt_lt_o hd
      refine mr_put (pc := 45) (k := 3) hx hb hts hown hK hW hJ hS (by decide) rfl eσ16 q1532 dX4_story_45 (fun H locs hW hS => ?_)
      refine lv_aload_n (pc := 48) hx hb dX4_story_48 rfl (lv_at hl 0 rfl) ?_
      refine mr_get (pc := 49) (k := 24) (v := .int ((σ16.1 24))) hx hb hts hown hK hW (by decide) rfl q1553 dX4_story_49 ?_
      refine lv_iconst (pc := 52) (v := 4) hx hb dX4_story_52 (by decide) ?_
      refine lv_icmp_ne (pc := 53) (tgt := 58) hx hb dX4_story_53 (by decide) (fun c17 => ?_) (fun c17 => ?_)
      · have hd := wt_if hd c17
        refine lv_iconst (pc := 58) (v := 0) hx hb dX4_story_58 (by decide) ?_
        refine lv_istore_n (pc := 59) (lv' := [(2, .int (0 : Int32)), (0, .ref X.1.1), (1, .int a0)]) hx hb dX4_story_59 rfl hl (by decide) rfl (fun ls hl => ?_)
        obtain ⟨w19, hL20, hq21⟩ := wt_bd_o hd
        have hX22 : ∀ w19_ : Int32 × MSt, w19_ = w19 → ∀ (H : Heap) (locs : List Loc) (ls : Array Slot), mW X w19_.2 H → va_S (mA lo hi) s_.heap H locs → lv_has ls 5 [(0, .ref X.1.1), (2, .int w19_.1)] → W p_ l e_ (headSpec (ws_ yX4_story cX4_story 5 (some .int)) ({ frames := 6, cells := 0, slots := 0, locals := 133 })).room s_ m_ ([.ref X.1.1, .int a0] : List Value).toArray below_ meth_ c_ H locs 0 0 (MQ below_ (mQi X out_.1 out_.2 (mA lo hi)) ([.ref X.1.1, .int a0] : List Value).toArray s_ 0 0 (mA lo hi)) (F0 m_ 93 ls []) := by
          intro w19_ hw_
          have hd := hq21
          subst hw_
          clear hL20 hq21
          intro H locs ls hW hS hl
          refine lv_aload_n (pc := 93) hx hb dX4_story_93 rfl (lv_at hl 0 rfl) ?_
          refine lv_aload_n (pc := 94) hx hb dX4_story_94 rfl (lv_at hl 0 rfl) ?_
          refine mr_get (pc := 95) (k := 6) (v := .int ((w19_.2.1 6))) hx hb hts hown hK hW (by decide) rfl q1535 dX4_story_95 ?_
          obtain ⟨σ35, eσ35, hd⟩ := wt_lt_o hd
          refine mr_put (pc := 98) (k := 3) hx hb hts hown hK hW hJ hS (by decide) rfl eσ35 q1532 dX4_story_98 (fun H locs hW hS => ?_)
          refine lv_aload_n (pc := 101) hx hb dX4_story_101 rfl (lv_at hl 0 rfl) ?_
          refine mr_get (pc := 102) (k := 5) (v := .int ((σ35.1 5))) hx hb hts hown hK hW (by decide) rfl q1534 dX4_story_102 ?_
          refine lv_if_eq (pc := 105) (tgt := 116) hx hb dX4_story_105 (by decide) (fun c36 => ?_) (fun c36 => ?_)
          · have hd := wt_it hd c36
            refine lv_iconst (pc := 116) (v := 0) hx hb dX4_story_116 (by decide) ?_
            refine lv_istore_n (pc := 117) (lv' := [(3, .int (0 : Int32)), (0, .ref X.1.1), (2, .int w19_.1)]) hx hb dX4_story_117 rfl hl (by decide) rfl (fun ls hl => ?_)
            obtain ⟨w38, hL39, hq40⟩ := wt_bd_o hd
            have hX41 : ∀ w38_ : MSt, w38_ = w38 → ∀ (H : Heap) (locs : List Loc) (ls : Array Slot), mW X w38_ H → va_S (mA lo hi) s_.heap H locs → lv_has ls 5 [(0, .ref X.1.1), (2, .int w19_.1)] → W p_ l e_ (headSpec (ws_ yX4_story cX4_story 5 (some .int)) ({ frames := 6, cells := 0, slots := 0, locals := 133 })).room s_ m_ ([.ref X.1.1, .int a0] : List Value).toArray below_ meth_ c_ H locs 0 0 (MQ below_ (mQi X out_.1 out_.2 (mA lo hi)) ([.ref X.1.1, .int a0] : List Value).toArray s_ 0 0 (mA lo hi)) (F0 m_ 170 ls []) := by
              intro w38_ hw_
              have hd := hq40
              subst hw_
              clear hL39 hq40
              intro H locs ls hW hS hl
              refine lv_aload_n (pc := 170) hx hb dX4_story_170 rfl (lv_at hl 0 rfl) ?_
              refine mr_get (pc := 171) (k := 25) (v := .ref (X.1.2.1 25)) hx hb hts hown hK hW (by decide) rfl q1554 dX4_story_171 ?_
              refine lv_aload_n (pc := 174) hx hb dX4_story_174 rfl (lv_at hl 0 rfl) ?_
              refine mr_get (pc := 175) (k := 24) (v := .int ((w38_.1 24))) hx hb hts hown hK hW (by decide) rfl q1553 dX4_story_175 ?_
              refine lv_iload_n (pc := 178) hx hb dX4_story_178 rfl (lv_at hl 1 rfl) ?_
              obtain ⟨h66, hd⟩ := wt_ck_o hd
              obtain ⟨σ67, eσ67, hd⟩ := wt_lt_o hd
              refine mr_ast (pc := 179) (k := 25) hx hb hK hW hJ hS rfl h66 eσ67 dX4_story_179 (fun H locs hW hS => ?_)
              refine lv_aload_n (pc := 180) hx hb dX4_story_180 rfl (lv_at hl 0 rfl) ?_
              refine lv_dup (pc := 181) hx hb dX4_story_181 rfl ?_
              refine mr_get (pc := 182) (k := 24) (v := .int ((σ67.1 24))) hx hb hts hown hK hW (by decide) rfl q1553 dX4_story_182 ?_
              refine lv_iconst (pc := 185) (v := 1) hx hb dX4_story_185 (by decide) ?_
              refine lv_iadd (pc := 186) hx hb dX4_story_186 ?_
              obtain ⟨σ68, eσ68, hd⟩ := wt_lt_o hd
              refine mr_put (pc := 187) (k := 24) hx hb hts hown hK hW hJ hS (by decide) rfl eσ68 q1553 dX4_story_187 (fun H locs hW hS => ?_)
              refine lv_aload_n (pc := 190) hx hb dX4_story_190 rfl (lv_at hl 0 rfl) ?_
              refine mr_get (pc := 191) (k := 24) (v := .int ((σ68.1 24))) hx hb hts hown hK hW (by decide) rfl q1553 dX4_story_191 ?_
              refine lv_iconst (pc := 194) (v := 1) hx hb dX4_story_194 (by decide) ?_
              refine lv_isub (pc := 195) hx hb dX4_story_195 ?_
              exact mr_iret hx hb hr rfl hlocks (wt_p1 hd) (wt_p2 hd) hW hK hS dX4_story_196
            have hI46 : ∀ (k45 : Nat) (v37 : Int32 × MSt), wt_wh (bX4_story_2 w19_) k45 v37 = some w38 → ∀ (H : Heap) (locs : List Loc) (ls : Array Slot), mW X v37.2 H → va_S (mA lo hi) s_.heap H locs → lv_has ls 5 [(0, .ref X.1.1), (2, .int w19_.1), (3, .int v37.1)] → W p_ l e_ (headSpec (ws_ yX4_story cX4_story 5 (some .int)) ({ frames := 6, cells := 0, slots := 0, locals := 133 })).room s_ m_ ([.ref X.1.1, .int a0] : List Value).toArray below_ meth_ c_ H locs 0 0 (MQ below_ (mQi X out_.1 out_.2 (mA lo hi)) ([.ref X.1.1, .int a0] : List Value).toArray s_ 0 0 (mA lo hi)) (F0 m_ 118 ls []) := by
              intro k45
              induction k45 with
              | zero => intro v37 hd; exact absurd hd wt_wh_z
              | succ k45 ih43 =>
                intro v37 hd
                intro H locs ls hW hS hl
                obtain ⟨r44, hd, hk42⟩ := wt_wh_o hd
                unfold bX4_story_2 at hd
                refine lv_iload_n (pc := 118) hx hb dX4_story_118 rfl (lv_at hl 2 rfl) ?_
                refine lv_iload_n (pc := 119) hx hb dX4_story_119 rfl (lv_at hl 1 rfl) ?_
                refine lv_icmp_ge (pc := 120) (tgt := 170) hx hb dX4_story_120 (by decide) (fun c47 => ?_) (fun c47 => ?_)
                · have hd := wt_it hd c47
                  exact hX41 v37.2 (wt_exit hd hk42) _ _ _ hW hS (lv_sub hl [0, 1] rfl)
                · have hd := wt_if hd c47
                  refine lv_iconst (pc := 123) (v := 0) hx hb dX4_story_123 (by decide) ?_
                  refine lv_istore (pc := 124) (lv' := [(4, .int (0 : Int32)), (0, .ref X.1.1), (2, .int w19_.1), (3, .int v37.1)]) hx hb dX4_story_124 hl (by decide) rfl (fun ls hl => ?_)
                  obtain ⟨w49, hL50, hq51⟩ := wt_bd_o hd
                  have hX52 : ∀ w49_ : MSt, w49_ = w49 → ∀ (H : Heap) (locs : List Loc) (ls : Array Slot), mW X w49_ H → va_S (mA lo hi) s_.heap H locs → lv_has ls 5 [(0, .ref X.1.1), (2, .int w19_.1), (3, .int v37.1)] → W p_ l e_ (headSpec (ws_ yX4_story cX4_story 5 (some .int)) ({ frames := 6, cells := 0, slots := 0, locals := 133 })).room s_ m_ ([.ref X.1.1, .int a0] : List Value).toArray below_ meth_ c_ H locs 0 0 (MQ below_ (mQi X out_.1 out_.2 (mA lo hi)) ([.ref X.1.1, .int a0] : List Value).toArray s_ 0 0 (mA lo hi)) (F0 m_ 164 ls []) := by
                    intro w49_ hw_
                    have hd := hq51
                    subst hw_
                    clear hL50 hq51
                    intro H locs ls hW hS hl
                    obtain ⟨n65, en65, hd⟩ := wt_lt_o hd
                    refine lv_iinc (pc := 164) (k := 2) (v := n65) (lv' := [(3, .int n65), (0, .ref X.1.1), (2, .int w19_.1)]) hx hb dX4_story_164 hl rfl en65.symm (by decide) rfl (fun ls hl => ?_)
                    refine lv_goto (pc := 167) (tgt := 118) hx hb dX4_story_167 (by decide) ?_
                    exact ih43 _ (wt_again hd hk42) _ _ _ hW hS (lv_sub hl [1, 2, 0] rfl)
                  have hI57 : ∀ (k56 : Nat) (v48 : Int32 × MSt), wt_wh (bX4_story_3 v37) k56 v48 = some w49 → ∀ (H : Heap) (locs : List Loc) (ls : Array Slot), mW X v48.2 H → va_S (mA lo hi) s_.heap H locs → lv_has ls 5 [(0, .ref X.1.1), (2, .int w19_.1), (3, .int v37.1), (4, .int v48.1)] → W p_ l e_ (headSpec (ws_ yX4_story cX4_story 5 (some .int)) ({ frames := 6, cells := 0, slots := 0, locals := 133 })).room s_ m_ ([.ref X.1.1, .int a0] : List Value).toArray below_ meth_ c_ H locs 0 0 (MQ below_ (mQi X out_.1 out_.2 (mA lo hi)) ([.ref X.1.1, .int a0] : List Value).toArray s_ 0 0 (mA lo hi)) (F0 m_ 126 ls []) := by
                    intro k56
                    induction k56 with
                    | zero => intro v48 hd; exact absurd hd wt_wh_z
                    | succ k56 ih54 =>
                      intro v48 hd
                      intro H locs ls hW hS hl
                      obtain ⟨r55, hd, hk53⟩ := wt_wh_o hd
                      unfold bX4_story_3 at hd
                      refine lv_iload (pc := 126) hx hb dX4_story_126 (lv_at hl 3 rfl) ?_
                      refine lv_iconst (pc := 128) (v := 4) hx hb dX4_story_128 (by decide) ?_
                      refine lv_icmp_ge (pc := 129) (tgt := 164) hx hb dX4_story_129 (by decide) (fun c58 => ?_) (fun c58 => ?_)
                      · have hd := wt_it hd c58
                        exact hX52 v48.2 (wt_exit hd hk53) _ _ _ hW hS (lv_sub hl [0, 1, 2] rfl)
                      · have hd := wt_if hd c58
                        refine lv_aload_n (pc := 132) hx hb dX4_story_132 rfl (lv_at hl 0 rfl) ?_
                        refine mr_get (pc := 133) (k := 26) (v := .ref (X.1.2.1 26)) hx hb hts hown hK hW (by decide) rfl q1555 dX4_story_133 ?_
                        refine lv_bipush (pc := 136) (v := 20) hx hb dX4_story_136 (by decide) ?_
                        refine lv_aload_n (pc := 138) hx hb dX4_story_138 rfl (lv_at hl 0 rfl) ?_
                        refine mr_get (pc := 139) (k := 24) (v := .int ((v48.2.1 24))) hx hb hts hown hK hW (by decide) rfl q1553 dX4_story_139 ?_
                        refine lv_imul (pc := 142) hx hb dX4_story_142 ?_
                        refine lv_iload_n (pc := 143) hx hb dX4_story_143 rfl (lv_at hl 2 rfl) ?_
                        refine lv_iadd (pc := 144) hx hb dX4_story_144 ?_
                        obtain ⟨h59, hd⟩ := wt_ck_o hd
                        refine mr_row (pc := 145) (k := 26) hx hb hK hW rfl h59 dX4_story_145 ?_
                        refine lv_iload (pc := 146) hx hb dX4_story_146 (lv_at hl 3 rfl) ?_
                        refine lv_aload_n (pc := 148) hx hb dX4_story_148 rfl (lv_at hl 0 rfl) ?_
                        refine mr_get (pc := 149) (k := 27) (v := .ref (X.1.2.1 27)) hx hb hts hown hK hW (by decide) rfl q1556 dX4_story_149 ?_
                        refine lv_iload_n (pc := 152) hx hb dX4_story_152 rfl (lv_at hl 2 rfl) ?_
                        obtain ⟨h60, hd⟩ := wt_ck_o hd
                        refine mr_row (pc := 153) (k := 27) hx hb hK hW rfl h60 dX4_story_153 ?_
                        refine lv_iload (pc := 154) hx hb dX4_story_154 (lv_at hl 3 rfl) ?_
                        obtain ⟨h61, hd⟩ := wt_ck_o hd
                        refine mr_gld (pc := 156) (k := 27) (i := (v37.1.toNatClampNeg)) hx hb hK hW (vp_lt h60) rfl h61 dX4_story_156 ?_
                        obtain ⟨h62, hd⟩ := wt_ck_o hd
                        obtain ⟨σ63, eσ63, hd⟩ := wt_lt_o hd
                        refine mr_gst (pc := 157) (k := 26) (i := (((((20 : Int32) * (v48.2.1 24)) + v37.1)).toNatClampNeg)) hx hb hK hW hJ hS (vp_lt h59) rfl h62 eσ63 dX4_story_157 (fun H locs hW hS => ?_)
                        obtain ⟨n64, en64, hd⟩ := wt_lt_o hd
                        refine lv_iinc (pc := 158) (k := 3) (v := n64) (lv' := [(4, .int n64), (0, .ref X.1.1), (2, .int w19_.1), (3, .int v37.1)]) hx hb dX4_story_158 hl rfl en64.symm (by decide) rfl (fun ls hl => ?_)
                        refine lv_goto (pc := 161) (tgt := 126) hx hb dX4_story_161 (by decide) ?_
                        exact ih54 _ (wt_again hd hk53) _ _ _ hW hS (lv_sub hl [1, 2, 3, 0] rfl)
                  obtain ⟨k56, hL50⟩ := wt_whC_o hL50
                  exact hI57 k56 _ hL50 _ _ _ hW hS (lv_sub hl [1, 2, 3, 0] rfl)
            obtain ⟨k45, hL39⟩ := wt_whC_o hL39
            exact hI46 k45 _ hL39 _ _ _ hW hS (lv_sub hl [1, 2, 0] rfl)
          · have hd := wt_if hd c36
            refine lv_aload_n (pc := 108) hx hb dX4_story_108 rfl (lv_at hl 0 rfl) ?_
            refine mr_get (pc := 109) (k := 5) (v := .int ((σ35.1 5))) hx hb hts hown hK hW (by decide) rfl q1534 dX4_story_109 ?_
            refine lv_bipush (pc := 112) (v := 10) hx hb dX4_story_112 (by decide) ?_
            refine lv_isub (pc := 114) hx hb dX4_story_114 ?_
            exact mr_iret hx hb hr rfl hlocks (wt_p1 hd) (wt_p2 hd) hW hK hS dX4_story_115
        have hI27 : ∀ (k26 : Nat) (v18 : Int32 × MSt), wt_wh (bX4_story_1) k26 v18 = some w19 → ∀ (H : Heap) (locs : List Loc) (ls : Array Slot), mW X v18.2 H → va_S (mA lo hi) s_.heap H locs → lv_has ls 5 [(0, .ref X.1.1), (2, .int v18.1)] → W p_ l e_ (headSpec (ws_ yX4_story cX4_story 5 (some .int)) ({ frames := 6, cells := 0, slots := 0, locals := 133 })).room s_ m_ ([.ref X.1.1, .int a0] : List Value).toArray below_ meth_ c_ H locs 0 0 (MQ below_ (mQi X out_.1 out_.2 (mA lo hi)) ([.ref X.1.1, .int a0] : List Value).toArray s_ 0 0 (mA lo hi)) (F0 m_ 60 ls []) := by
          intro k26
          induction k26 with
          | zero => intro v18 hd; exact absurd hd wt_wh_z
          | succ k26 ih24 =>
            intro v18 hd
            intro H locs ls hW hS hl
            obtain ⟨r25, hd, hk23⟩ := wt_wh_o hd
            unfold bX4_story_1 at hd
            refine lv_aload_n (pc := 60) hx hb dX4_story_60 rfl (lv_at hl 0 rfl) ?_
            refine mr_get (pc := 61) (k := 5) (v := .int ((v18.2.1 5))) hx hb hts hown hK hW (by decide) rfl q1534 dX4_story_61 ?_
            refine lv_if_ne (pc := 64) (tgt := 93) hx hb dX4_story_64 (by decide) (fun c28 => ?_) (fun c28 => ?_)
            · have hd := wt_if hd c28
              exact hX22 (v18.1, v18.2) (wt_exit hd hk23) _ _ _ hW hS hl
            · have hd := wt_it hd c28
              refine lv_aload_n (pc := 67) hx hb dX4_story_67 rfl (lv_at hl 0 rfl) ?_
              refine mr_get (pc := 68) (k := 4) (v := .int ((v18.2.1 4))) hx hb hts hown hK hW (by decide) rfl q1533 dX4_story_68 ?_
              refine lv_aload_n (pc := 71) hx hb dX4_story_71 rfl (lv_at hl 0 rfl) ?_
              refine mr_get (pc := 72) (k := 2) (v := .int ((v18.2.1 2))) hx hb hts hown hK hW (by decide) rfl q1531 dX4_story_72 ?_
              refine lv_icmp_ge (pc := 75) (tgt := 93) hx hb dX4_story_75 (by decide) (fun c29 => ?_) (fun c29 => ?_)
              · have hd := wt_it hd c29
                exact hX22 (v18.1, v18.2) (wt_exit hd hk23) _ _ _ hW hS hl
              · have hd := wt_if hd c29
                refine lv_aload_n (pc := 78) hx hb dX4_story_78 rfl (lv_at hl 0 rfl) ?_
                refine lv_iload_n (pc := 79) hx hb dX4_story_79 rfl (lv_at hl 1 rfl) ?_
                obtain ⟨w30, hc31, hd⟩ := wt_bd_o hd
                refine kX4_eventAt (pc := 80) hx hb hml hown hts hK hJ hW hS hc31 hl.1 (Nat.le_of_ble_eq_true rfl) ⟨Nat.le_of_ble_eq_true rfl, Nat.le_of_ble_eq_true rfl⟩ ⟨Nat.le_refl _, Nat.le_refl _⟩ dX4_story_80 (fun H locs hW hS => ?_)
                obtain ⟨n32, en32, hd⟩ := wt_lt_o hd
                refine lv_iinc (pc := 83) (k := 1) (v := n32) (lv' := [(2, .int n32), (0, .ref X.1.1)]) hx hb dX4_story_83 hl rfl en32.symm (by decide) rfl (fun ls hl => ?_)
                refine lv_aload_n (pc := 86) hx hb dX4_story_86 rfl (lv_at hl 1 rfl) ?_
                obtain ⟨w33, hc34, hd⟩ := wt_bd_o hd
                refine kX4_blanks (pc := 87) hx hb hml hown hts hK hJ hW hS hc34 hl.1 (Nat.le_of_ble_eq_true rfl) ⟨Nat.le_of_ble_eq_true rfl, Nat.le_of_ble_eq_true rfl⟩ ⟨Nat.le_refl _, Nat.le_refl _⟩ dX4_story_87 (fun H locs hW hS => ?_)
                refine lv_goto (pc := 90) (tgt := 60) hx hb dX4_story_90 (by decide) ?_
                exact ih24 _ (wt_again hd hk23) _ _ _ hW hS (lv_sub hl [1, 0] rfl)
        obtain ⟨k26, hL20⟩ := wt_whC_o hL20
        exact hI27 k26 _ hL20 _ _ _ hW hS (lv_sub hl [1, 0] rfl)
      · have hd := wt_it hd c17
        refine lv_iconst (pc := 56) (v := -1) hx hb dX4_story_56 (by decide) ?_
        exact mr_iret hx hb hr rfl hlocks (wt_p1 hd) (wt_p2 hd) hW hK hS dX4_story_57
    · have hd := wt_if hd c13
      refine lv_iconst (pc := 36) (v := 0) hx hb dX4_story_36 (by decide) ?_
      exact mr_iret hx hb hr rfl hlocks (wt_p1 hd) (wt_p2 hd) hW hK hS dX4_story_37
  have hd := hj7
  refine lv_if_ne (pc := 21) (tgt := 28) hx hb dX4_story_21 (by decide) (fun c10 => ?_) (fun c10 => ?_)
  · have hd := wt_if hd c10
    refine lv_iconst (pc := 28) (v := 0) hx hb dX4_story_28 (by decide) ?_
    exact hX9 (0 : Int32) (Option.some.inj hd) _ _ _ hW hS hl
  · have hd := wt_it hd c10
    refine lv_iconst (pc := 24) (v := 1) hx hb dX4_story_24 (by decide) ?_
    refine lv_goto (pc := 25) (tgt := 29) hx hb dX4_story_25 (by decide) ?_
    exact hX9 (1 : Int32) (Option.some.inj hd) _ _ _ hW hS hl
