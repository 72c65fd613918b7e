/-! THE HEAP DIALECT, more rows: stores into arrays of references, casts, class objects, arraycopy, nullable references, throws -/
set_option maxRecDepth 100000
def hob (c : Nat) : Bool := [5, 6, 7, 10, 12, 13].contains c
def hev (c : Nat) : Bool := [5, 6, 7].contains c
theorem hob_o {c : Nat} (h : hob c = true) {s : State} (hT : Ht s) : ∃ r : vw_C, clw[c]? = some r ∧ va_Nw (.castable r.1 "java/lang/Object") s := by
  have hc : c = 5 ∨ c = 6 ∨ c = 7 ∨ c = 10 ∨ c = 12 ∨ c = 13 := by simpa [hob] using h
  rcases hc with e | e | e | e | e | e <;> subst e
  · exact ⟨_, rfl, hT.1 _ (hw_of q2036 rfl)⟩
  · exact ⟨_, rfl, hT.1 _ (hw_of q2037 rfl)⟩
  · exact ⟨_, rfl, hT.1 _ (hw_of q2038 rfl)⟩
  · exact ⟨_, rfl, hT.1 _ (hw_of q2042 rfl)⟩
  · exact ⟨_, rfl, hT.1 _ (hw_of q2046 rfl)⟩
  · exact ⟨_, rfl, hT.1 _ (hw_of q2028 rfl)⟩
theorem hev_o {c : Nat} (h : hev c = true) {s : State} (hT : Ht s) : ∃ r : vw_C, clw[c]? = some r ∧ va_Nw (.castable r.1 "WoolThreads$Event") s := by
  have hc : c = 5 ∨ c = 6 ∨ c = 7 := by simpa [hev] using h
  rcases hc with e | e | e <;> subst e
  · exact ⟨_, rfl, hT.1 _ (hw_of q2024 rfl)⟩
  · exact ⟨_, rfl, hT.1 _ (hw_of q2023 rfl)⟩
  · exact ⟨_, rfl, hT.1 _ (hw_of q2022 rfl)⟩
/-! a nullable reference: null, or an address -/
def wt_om {α : Type} (x : Option Nat) (a : α) (f : Nat → α) : α := match x with
  | none => a
  | some q => f q
theorem wt_on {α : Type} {x : Option Nat} {a r : α} {f : Nat → α} (h : wt_om x a f = r) (hx : x = none) : a = r := by subst hx; exact h
theorem wt_os {α : Type} {x : Option Nat} {a r : α} {f : Nat → α} {q : Nat} (h : wt_om x a f = r) (hx : x = some q) : f q = r := by subst hx; exact h
theorem wt_oc (x : Option Nat) : x = none ∨ ∃ q, x = some q := by
  cases x with
  | none => exact Or.inl rfl
  | some q => exact Or.inr ⟨q, rfl⟩
section HR2
variable {p : Program} {l : Launch} {e : Env} {R : Room} {s : State} {m : MethodId} {args : Array Value} {below : List Frame} {meth : Method} {c : Code} {H : Heap} {locs : List Loc} {cells slots : Nat} {Q : State → Prop}
variable {cc : ByteArray} {pc : Nat} {ls : Array Slot} {rest : List Value} {G : HG} {A : Nat → Prop} {τ τ1 : HP} {H0 : Heap}
theorem lv_ifnullR0 {x : Option Nat} {off : Int} {tgt : Nat} (hx : p.tables.exec = Jvm.exec) (hb : c.code = cc) (h : x = none) (hdg : decode cc pc = .ok (.ifnull off, 3)) (ht : (pc : Int) + off = (tgt : Int)) (k : W p l e R s m args below meth c H locs cells slots Q (F0 m tgt ls rest)) : W p l e R s m args below meth c H locs cells slots Q (F0 m pc ls (va_rf x :: rest)) := by
  subst h
  exact lv_ifnullN hx hb hdg ht k
theorem lv_ifnullR1 {x : Option Nat} {q : Nat} {off : Int} {tgt : Nat} (hx : p.tables.exec = Jvm.exec) (hb : c.code = cc) (h : x = some q) (hdg : decode cc pc = .ok (.ifnull off, 3)) (ht : (pc : Int) + off = (tgt : Int)) (k : W p l e R s m args below meth c H locs cells slots Q (F0 m (pc + 3) ls rest)) : W p l e R s m args below meth c H locs cells slots Q (F0 m pc ls (va_rf x :: rest)) := by
  subst h
  exact lv_ifnull hx hb hdg k
theorem hr_aastO {a b ci : Nat} {z : Nat × (Nat → Option Nat)} {i : Int32} (hx : p.tables.exec = Jvm.exec) (hb : c.code = cc) (hC : Hcx G A s) (hW : Hw G A τ H) (hS0 : va_S A H0 H locs) (hz : haR τ a 2 = some z) (hin : vp_in i z.1) (hbv : hcl τ b = some ci) (hob : hob ci = true) (hσ : τ1 = hst τ a (.inl (2, z.1, .inr (.inr (.inr (.inr (va_up z.2 i.toNatClampNeg (some b)))))))) (hdg : decode cc pc = .ok (.aastore, 1))
    (kk : ∀ (H1 : Heap) (locs1 : List Loc), Hw G A τ1 H1 → va_S A H0 H1 locs1 → W p l e R s m args below meth c H1 locs1 cells slots Q (F0 m (pc + 1) ls rest)) : W p l e R s m args below meth c H locs cells slots Q (F0 m pc ls (.ref b :: .int i :: .ref a :: rest)) := by
  obtain ⟨fs, h1⟩ := hcl_o hbv
  obtain ⟨r, hr, hn⟩ := hob_o hob hC.2.1
  exact hr_aast hx hb hC.1 hW hS0 hz rfl (by decide) hin h1 hr (Or.inr hn) hσ hdg kk
theorem hr_aastS {a b ci : Nat} {z : Nat × (Nat → Option Nat)} {i : Int32} (hx : p.tables.exec = Jvm.exec) (hb : c.code = cc) (hC : Hcx G A s) (hW : Hw G A τ H) (hS0 : va_S A H0 H locs) (hz : haR τ a 3 = some z) (hin : vp_in i z.1) (hbv : hcl τ b = some ci) (hob : ci = 2) (hσ : τ1 = hst τ a (.inl (3, z.1, .inr (.inr (.inr (.inr (va_up z.2 i.toNatClampNeg (some b)))))))) (hdg : decode cc pc = .ok (.aastore, 1))
    (kk : ∀ (H1 : Heap) (locs1 : List Loc), Hw G A τ1 H1 → va_S A H0 H1 locs1 → W p l e R s m args below meth c H1 locs1 cells slots Q (F0 m (pc + 1) ls rest)) : W p l e R s m args below meth c H locs cells slots Q (F0 m pc ls (.ref b :: .int i :: .ref a :: rest)) := by
  subst hob
  obtain ⟨fs, h1⟩ := hcl_o hbv
  exact hr_aast hx hb hC.1 hW hS0 hz rfl (by decide) hin h1 (rC := (RX3, TX3, 4)) rfl (Or.inl rfl) hσ hdg kk
theorem hr_aastN {a t : Nat} {C : String} {z : Nat × (Nat → Option Nat)} {i : Int32} (hx : p.tables.exec = Jvm.exec) (hb : c.code = cc) (hK : Hk G s) (hW : Hw G A τ H) (hS0 : va_S A H0 H locs) (hz : haR τ a t = some z) (ht : (hTy G)[t]? = some (G.2.1 t, .object C)) (ht5 : t ≠ 5) (hin : vp_in i z.1) (hσ : τ1 = hst τ a (.inl (t, z.1, .inr (.inr (.inr (.inr (va_up z.2 i.toNatClampNeg none))))))) (hdg : decode cc pc = .ok (.aastore, 1))
    (kk : ∀ (H1 : Heap) (locs1 : List Loc), Hw G A τ1 H1 → va_S A H0 H1 locs1 → W p l e R s m args below meth c H1 locs1 cells slots Q (F0 m (pc + 1) ls rest)) : W p l e R s m args below meth c H locs cells slots Q (F0 m pc ls (.null :: .int i :: .ref a :: rest)) := by
  subst hσ
  have hlt : i.toNatClampNeg < z.1 := vp_lt hin
  have h0 : ¬ i < 0 := fun q => hin (Or.inl q)
  refine va_WaastN hx hb (hW.2 a _ (haR_o hz)).1 ((hK.2 t _ ht).1 z.1 (fun j => va_rf (z.2 j))) (fun q => by cases q) (by show ¬ (i < 0 ∨ (arrV _ _ _).slots.size ≤ _); rw [arrV_size]; exact hin) rfl rfl hdg fun H1 e1 e2 oq => ?_
  refine kk H1 _ (hW.put (haR_o hz) (decide_eq_true ht5) ?_ e2 oq) (hS0.put e2 oq ((hW.2 a _ (haR_o hz)).2 (decide_eq_true ht5)))
  show H1[a]? = some (vp_cell _ _)
  rw [e1]
  rw [vp_cell_q, vp_cell_q, arrV_store]
  congr 2
  funext q
  by_cases hq : q = i.toNatClampNeg
  · subst hq
    simp [updV, va_up, va_rf]
  · simp [updV, va_up, hq]
theorem hr_castO {own : String} {a n index : Nat} (hx : p.tables.exec = Jvm.exec) (hb : c.code = cc) (hts : ∀ w ∈ lw_all, w.before args s = true) (hown : s.vm.findClass own = some m.cls) (hK : Hk G s) (hW : Hw G A τ H) (h : hln τ a 2 = some n) (hlink : Cond.classLink own index "[Ljava/lang/Object;" ∈ lw_all) (hdg : decode cc pc = .ok (.checkcast index, 3))
    (k : W p l e R s m args below meth c H locs cells slots Q (F0 m (pc + 3) ls (.ref a :: rest))) : W p l e R s m args below meth c H locs cells slots Q (F0 m pc ls (.ref a :: rest)) := by
  obtain ⟨f, h1⟩ := hln_o h
  exact va_castA (D := G.1) (cl := clw) (ws := [(a, .inl (G.2.1 2, n, f))]) hx hb hown (hts _ hlink) (fun k q hq => by
    have hz : k < 1 := (List.getElem?_eq_some_iff.mp hq).1
    rw [show k = 0 by omega] at hq
    cases hq
    exact (hW.2 a _ h1).1) 0 rfl (va_nmO (hK.2 2 _ rfl).2 rfl) hdg k
theorem hr_castB {own : String} {a n index : Nat} (hx : p.tables.exec = Jvm.exec) (hb : c.code = cc) (hts : ∀ w ∈ lw_all, w.before args s = true) (hown : s.vm.findClass own = some m.cls) (hK : Hk G s) (hW : Hw G A τ H) (h : hln τ a 1 = some n) (hlink : Cond.classLink own index "[B" ∈ lw_all) (hdg : decode cc pc = .ok (.checkcast index, 3))
    (k : W p l e R s m args below meth c H locs cells slots Q (F0 m (pc + 3) ls (.ref a :: rest))) : W p l e R s m args below meth c H locs cells slots Q (F0 m pc ls (.ref a :: rest)) := by
  obtain ⟨f, h1⟩ := hln_o h
  exact va_castA (D := G.1) (cl := clw) (ws := [(a, .inl (G.2.1 1, n, f))]) hx hb hown (hts _ hlink) (fun k q hq => by
    have hz : k < 1 := (List.getElem?_eq_some_iff.mp hq).1
    rw [show k = 0 by omega] at hq
    cases hq
    exact (hW.2 a _ h1).1) 0 rfl (hK.2 1 _ rfl).2 hdg k
theorem hr_cast {own nm : String} {ci a index : Nat} {r : vw_C} (hx : p.tables.exec = Jvm.exec) (hb : c.code = cc) (hts : ∀ w ∈ lw_all, w.before args s = true) (hown : s.vm.findClass own = some m.cls) (hK : Hk G s) (hW : Hw G A τ H) (h : hcl τ a = some ci) (hr : clw[ci]? = some r) (hn : r.1 = nm) (hlink : Cond.classLink own index nm ∈ lw_all) (hdg : decode cc pc = .ok (.checkcast index, 3))
    (k : W p l e R s m args below meth c H locs cells slots Q (F0 m (pc + 3) ls (.ref a :: rest))) : W p l e R s m args below meth c H locs cells slots Q (F0 m pc ls (.ref a :: rest)) := by
  subst hn
  obtain ⟨fs, h1⟩ := hcl_o h
  exact va_castS hx hb hown (hts _ hlink) (hK.1 ci _ hr).2 (hr_recv hK hW h1 hr) hdg k
theorem hr_castE {own : String} {ci a index : Nat} (hx : p.tables.exec = Jvm.exec) (hb : c.code = cc) (hts : ∀ w ∈ lw_all, w.before args s = true) (hown : s.vm.findClass own = some m.cls) (hC : Hcx G A s) (hW : Hw G A τ H) (h : hcl τ a = some ci) (he : hev ci = true) (hlink : Cond.classLink own index "WoolThreads$Event" ∈ lw_all) (hdg : decode cc pc = .ok (.checkcast index, 3))
    (k : W p l e R s m args below meth c H locs cells slots Q (F0 m (pc + 3) ls (.ref a :: rest))) : W p l e R s m args below meth c H locs cells slots Q (F0 m pc ls (.ref a :: rest)) := by
  obtain ⟨fs, h1⟩ := hcl_o h
  obtain ⟨r, hr, hn⟩ := hev_o he hC.2.1
  exact va_castY hx hb hown (hts _ hlink) hn (hr_recv hC.1 hW h1 hr) hdg k
theorem hr_inst {own nm : String} {ci a index : Nat} {r : vw_C} (hx : p.tables.exec = Jvm.exec) (hb : c.code = cc) (hts : ∀ w ∈ lw_all, w.before args s = true) (hown : s.vm.findClass own = some m.cls) (hK : Hk G s) (hW : Hw G A τ H) (h : hcl τ a = some ci) (hr : clw[ci]? = some r) (hn : r.1 = nm) (hlink : Cond.classLink own index nm ∈ lw_all) (hdg : decode cc pc = .ok (.instanceof index, 3))
    (k : W p l e R s m args below meth c H locs cells slots Q (F0 m (pc + 3) ls (.int 1 :: rest))) : W p l e R s m args below meth c H locs cells slots Q (F0 m pc ls (.ref a :: rest)) := by
  subst hn
  obtain ⟨fs, h1⟩ := hcl_o h
  exact va_instS hx hb hown (hts _ hlink) (hK.1 ci _ hr).2 (hr_recv hK hW h1 hr) hdg k
theorem hr_instT {own : String} {ci a index : Nat} {v : Int32} (hx : p.tables.exec = Jvm.exec) (hb : c.code = cc) (hts : ∀ w ∈ lw_all, w.before args s = true) (hown : s.vm.findClass own = some m.cls) (hC : Hcx G A s) (hW : Hw G A τ H) (h : hcl τ a = some ci) (he : hev ci = true) (hv : v = (if ci = 6 then 1 else 0 : Int32)) (hlink : Cond.classLink own index "WoolThreads$Touch" ∈ lw_all) (hdg : decode cc pc = .ok (.instanceof index, 3))
    (k : W p l e R s m args below meth c H locs cells slots Q (F0 m (pc + 3) ls (.int v :: rest))) : W p l e R s m args below meth c H locs cells slots Q (F0 m pc ls (.ref a :: rest)) := by
  obtain ⟨fs, h1⟩ := hcl_o h
  have hc : ci = 5 ∨ ci = 6 ∨ ci = 7 := by simpa [hev] using he
  rcases hc with e | e | e <;> subst e
  · rw [if_neg (by decide)] at hv
    subst hv
    exact va_instNo hx hb hown (hts _ hlink) hC.2.2.2.1.2.1 (hr_recv (r := (RX8, TX8, 3)) hC.1 hW h1 rfl) hdg k
  · rw [if_pos rfl] at hv
    subst hv
    exact va_instS hx hb hown (hts _ hlink) (hC.1.1 6 _ rfl).2 (hr_recv (r := (RX9, TX9, 3)) hC.1 hW h1 rfl) hdg k
  · rw [if_neg (by decide)] at hv
    subst hv
    exact va_instNo hx hb hown (hts _ hlink) hC.2.2.2.1.2.2.1 (hr_recv (r := (RX10, TX10, 3)) hC.1 hW h1 rfl) hdg k
theorem hr_getC {own : String} {a n index nL : Nat} (hx : p.tables.exec = Jvm.exec) (hb : c.code = cc) (hml : c.maxLocals = nL) (hts : ∀ w ∈ lw_all, w.before args s = true) (hown : s.vm.findClass own = some m.cls) (hC : Hcx G A s) (hW : Hw G A τ H) (h : hln τ a 2 = some n) (hsz : ls.size = nL) (hlink : Cond.methodLink own index ⟨"java/lang/Object", "getClass", "()Ljava/lang/Class;"⟩ ∈ lw_all) (hdg : decode cc pc = .ok (.invokevirtual index, 3)) (hframes : 1 ≤ R.frames) (hlocals : (rest.map fun v => v.category).sum + 14 ≤ R.locals)
    (k : W p l e R s m args below meth c H locs cells slots Q (F0 m (pc + 3) ls (.ref (G.2.2 0) :: rest))) : W p l e R s m args below meth c H locs cells slots Q (F0 m pc ls (.ref a :: rest)) := by
  obtain ⟨f, h1⟩ := hln_o h
  have hc := (hW.2 a _ h1).1
  refine va_getC hx hb (hml.trans hsz.symm) (C := "[Ljava/lang/Object;") hown (hts _ hlink) (va_Nw.use rfl (hC.2.1.1 _ (hw_of q2050 rfl))) (hts _ q2049) (hts _ q625) (hts _ q649) hC.2.2.2.1.1 ⟨_, hc, ?_, ?_⟩ hframes hlocals hdg k
  · rcases f with f | f | f | f | f <;> rfl
  · rw [va_nmO (hC.1.2 2 _ rfl).2 (nm := "[Ljava/lang/Object;") rfl]
    rcases f with f | f | f | f | f <;> rfl
theorem h_nn {z : Int32} (hz : ¬ z < 0) : z.toInt = (z.toNatClampNeg : Int) := by
  have hz0 : (0 : Int) ≤ z.toInt := by
    have := Int32.not_lt.mp hz
    simpa using Int32.le_iff_toInt_le.mp this
  show z.toInt = ((z.toInt.toNat : Nat) : Int)
  omega
theorem hr_copyI {own : String} {t a a0 index : Nat} {z0 z1 : Nat × (Nat → Int32)} {ty : FieldType} {sp dp n : Int32} (hx : p.tables.exec = Jvm.exec) (hb : c.code = cc) (hml : c.maxLocals = ls.size) (hts : ∀ w ∈ lw_all, w.before args s = true) (hown : s.vm.findClass own = some m.cls) (hC : Hcx G A s) (hW : Hw G A τ H) (hS : va_S A H0 H locs) (hz0 : haI τ a0 t = some z0) (hz1 : haI τ a t = some z1) (ht : (hTy G)[t]? = some (G.2.1 t, ty)) (hprim : refKind ty = false ∧ t ≠ 5)
    (hr : ¬ sp < 0 ∧ ¬ dp < 0 ∧ ¬ n < 0 ∧ sp.toNatClampNeg + n.toNatClampNeg ≤ z0.1 ∧ dp.toNatClampNeg + n.toNatClampNeg ≤ z1.1) (hfit : ∀ i, i < n.toNatClampNeg → fits ty (.int (z0.2 (sp.toNatClampNeg + i))) = true) (hσ : τ1 = hst τ a (.inl (t, z1.1, .inl (va_cpy z0.2 z1.2 sp.toNatClampNeg dp.toNatClampNeg n.toNatClampNeg)))) (hlink : (Cond.methodLink own index arraycopyName).before args s = true) (hframes : 1 ≤ R.frames) (hlocals : (rest.map fun v => v.category).sum + (nativeFrameWords "java/lang/System" "arraycopy" 5 + 11) ≤ R.locals) (hdg : decode cc pc = .ok (.invokestatic index, 3))
    (kk : ∀ (H1 : Heap) (locs1 : List Loc), Hw G A τ1 H1 → va_S A H0 H1 locs1 → W p l e R s m args below meth c H1 locs1 cells slots Q (F0 m (pc + 3) ls rest)) : W p l e R s m args below meth c H locs cells slots Q (F0 m pc ls (.int n :: .int dp :: .ref a :: .int sp :: .ref a0 :: rest)) := by
  subst hσ
  obtain ⟨h1, h2, h3, h4, h5⟩ := hr
  intro T hT X
  have hc0 := (hW.2 a0 _ (haI_o hz0)).1
  have hc1 := (hW.2 a _ (haI_o hz1)).1
  have hAa := (hW.2 a _ (haI_o hz1)).2 (decide_eq_true hprim.2)
  replace hc0 : H[a0]? = some (vp_cell (G.2.1 t) (z0.1, .inl z0.2)) := hc0
  replace hc1 : H[a]? = some (vp_cell (G.2.1 t) (z1.1, .inl z1.2)) := hc1
  obtain ⟨-, k0, hk0, cm0, hkk0⟩ := (hC.1.2 t _ ht).1 z0.1 (fun j => .int (z0.2 j))
  obtain ⟨vm', X', step⟩ := X.arraycopy hx hown hlink (hts _ q306) (hts _ q305) (hts _ q83) (src := a0) (dst := a) (cs := vp_cell (G.2.1 t) (z0.1, .inl z0.2)) (cd := vp_cell (G.2.1 t) (z1.1, .inl z1.2)) (srcPos := sp) (destPos := dp) (n := n) (by rw [hT]; exact hc0) (by rw [hT]; exact hc1)
    (fun _ h => by cases h) (fun _ h => by cases h) (fun h => by cases h) (fun h => by cases h) hk0 hk0 hkk0 hkk0 (by simp [hprim.1]) h1 h2 h3
    (by rw [h_nn h1, h_nn h3]; show ¬ _ > ((arrV (G.2.1 t) z0.1 (fun j => .int (z0.2 j))).slots.size : Int); rw [arrV_size]; omega)
    (by rw [h_nn h2, h_nn h3]; show ¬ _ > ((arrV (G.2.1 t) z1.1 (fun j => .int (z1.2 j))).slots.size : Int); rw [arrV_size]; omega)
    (fun vm₁ _ i hi => by
      have e : (vp_cell (G.2.1 t) (z0.1, .inl z0.2)).slots.getD (sp.toNatClampNeg + i) .null = .int (z0.2 (sp.toNatClampNeg + i)) := by
        show (arrV (G.2.1 t) z0.1 (fun j => .int (z0.2 j))).slots.getD _ _ = _
        rw [Array.getD_eq_getD_getElem?, arrV_read _ _ (by omega)]
        rfl
      refine ⟨?_, ?_⟩
      · rw [e]
        exact hfit i hi
      · rw [e]
        exact trivial)
    (g := F0 m pc ls (.int n :: .int dp :: .ref a :: .int sp :: .ref a0 :: rest)) rfl (by rw [hml]) (rest := rest) rfl (by rw [hb]; exact hdg) hframes (by show 2 * 0 + _ + _ ≤ _; omega)
  have e1 : copied (vp_cell (G.2.1 t) (z0.1, .inl z0.2)) (vp_cell (G.2.1 t) (z1.1, .inl z1.2)) sp dp n = vp_cell (G.2.1 t) (z1.1, .inl (va_cpy z0.2 z1.2 sp.toNatClampNeg dp.toNatClampNeg n.toNatClampNeg)) := va_copied (fun z => .int z) (G.2.1 t) (G.2.1 t) z0.2 z1.2 h4
  rw [e1] at X' step
  have hl : a < H.size := (Array.getElem?_eq_some_iff.mp hc1).1
  generalize hcell : vp_cell (G.2.1 t) (z1.1, .inl (va_cpy z0.2 z1.2 sp.toNatClampNeg dp.toNatClampNeg n.toNatClampNeg)) = cell at X' step
  have hheap : ((T.setVm vm').setCell a cell).heap = H.setIfInBounds a cell := by rw [← hT]; rfl
  have oq : ∀ q : Nat, q ≠ a → (H.setIfInBounds a cell)[q]? = H[q]? := fun q hq => by simp [Array.getElem?_setIfInBounds, Ne.symm hq]
  obtain ⟨t9, a1, b1⟩ := kk _ _ (hW.put (haI_o hz1) (decide_eq_true hprim.2) (show (H.setIfInBounds a cell)[a]? = some (vp_cell _ _) by rw [← hcell]; simp [Array.getElem?_setIfInBounds, hl]) (by simp) oq) ⟨by simp; exact hS.1, fun q g1 g2 => by
      rw [oq q (fun e => g2 (by rw [e]; exact hAa))]
      exact hS.2.1 q g1 g2, fun q hq => by
      rcases List.mem_append.mp hq with h | h
      · exact hS.2.2 q h
      · obtain ⟨z, -, hz⟩ := List.mem_map.mp h
        rw [← hz]
        exact hAa⟩ _ hheap X'
  exact ⟨t9, step t9 a1, b1⟩
theorem hr_copyR {own C : String} {t a a0 index : Nat} {z0 z1 : Nat × (Nat → Option Nat)} {sp dp n : Int32} (hx : p.tables.exec = Jvm.exec) (hb : c.code = cc) (hml : c.maxLocals = ls.size) (hts : ∀ w ∈ lw_all, w.before args s = true) (hown : s.vm.findClass own = some m.cls) (hC : Hcx G A s) (hW : Hw G A τ H) (hS : va_S A H0 H locs) (hz0 : haR τ a0 t = some z0) (hz1 : haR τ a t = some z1) (ht : (hTy G)[t]? = some (G.2.1 t, .object C)) (hprim : t = 2)
    (hr : ¬ sp < 0 ∧ ¬ dp < 0 ∧ ¬ n < 0 ∧ sp.toNatClampNeg + n.toNatClampNeg ≤ z0.1 ∧ dp.toNatClampNeg + n.toNatClampNeg ≤ z1.1) (hel : ∀ i, i < n.toNatClampNeg → ∀ y, z0.2 (sp.toNatClampNeg + i) = some y → ∃ c, hcl τ y = some c ∧ hob c = true) (hσ : τ1 = hst τ a (.inl (t, z1.1, .inr (.inr (.inr (.inr (va_cpy z0.2 z1.2 sp.toNatClampNeg dp.toNatClampNeg n.toNatClampNeg))))))) (hlink : (Cond.methodLink own index arraycopyName).before args s = true) (hframes : 1 ≤ R.frames) (hlocals : (rest.map fun v => v.category).sum + (nativeFrameWords "java/lang/System" "arraycopy" 5 + 11) ≤ R.locals) (hdg : decode cc pc = .ok (.invokestatic index, 3))
    (kk : ∀ (H1 : Heap) (locs1 : List Loc), Hw G A τ1 H1 → va_S A H0 H1 locs1 → W p l e R s m args below meth c H1 locs1 cells slots Q (F0 m (pc + 3) ls rest)) : W p l e R s m args below meth c H locs cells slots Q (F0 m pc ls (.int n :: .int dp :: .ref a :: .int sp :: .ref a0 :: rest)) := by
  subst hσ hprim
  have hCe : C = "java/lang/Object" := by cases ht; rfl
  subst hCe
  obtain ⟨h1, h2, h3, h4, h5⟩ := hr
  intro T hT X
  have hc0 := (hW.2 a0 _ (haR_o hz0)).1
  have hc1 := (hW.2 a _ (haR_o hz1)).1
  have hAa := (hW.2 a _ (haR_o hz1)).2 rfl
  replace hc0 : H[a0]? = some (vp_cell (G.2.1 2) (z0.1, .inr (.inr (.inr (.inr z0.2))))) := hc0
  replace hc1 : H[a]? = some (vp_cell (G.2.1 2) (z1.1, .inr (.inr (.inr (.inr z1.2))))) := hc1
  obtain ⟨-, k0, hk0, cm0, hkk0⟩ := (hC.1.2 2 _ ht).1 z0.1 (fun j => va_rf (z0.2 j))
  obtain ⟨vm', X', step⟩ := X.arraycopy hx hown hlink (hts _ q306) (hts _ q305) (hts _ q83) (src := a0) (dst := a) (cs := vp_cell (G.2.1 2) (z0.1, .inr (.inr (.inr (.inr z0.2))))) (cd := vp_cell (G.2.1 2) (z1.1, .inr (.inr (.inr (.inr z1.2))))) (srcPos := sp) (destPos := dp) (n := n) (by rw [hT]; exact hc0) (by rw [hT]; exact hc1)
    (fun _ h => by cases h) (fun _ h => by cases h) (fun h => by cases h) (fun h => by cases h) hk0 hk0 hkk0 hkk0 rfl h1 h2 h3
    (by rw [h_nn h1, h_nn h3]; show ¬ _ > ((arrV (G.2.1 2) z0.1 (fun j => va_rf (z0.2 j))).slots.size : Int); rw [arrV_size]; omega)
    (by rw [h_nn h2, h_nn h3]; show ¬ _ > ((arrV (G.2.1 2) z1.1 (fun j => va_rf (z1.2 j))).slots.size : Int); rw [arrV_size]; omega)
    (fun vm₁ hal i hi => by
      have e : (vp_cell (G.2.1 2) (z0.1, .inr (.inr (.inr (.inr z0.2))))).slots.getD (sp.toNatClampNeg + i) .null = va_rf (z0.2 (sp.toNatClampNeg + i)) := by
        show (arrV (G.2.1 2) z0.1 (fun j => va_rf (z0.2 j))).slots.getD _ _ = _
        rw [Array.getD_eq_getD_getElem?, arrV_read _ _ (by omega)]
        rfl
      rw [e]
      cases hy : z0.2 (sp.toNatClampNeg + i) with
      | none => exact ⟨rfl, trivial⟩
      | some y =>
        obtain ⟨ci, hci, hob⟩ := hel i hi y hy
        obtain ⟨fs, hy1⟩ := hcl_o hci
        obtain ⟨r, hr, hn⟩ := hob_o hob hC.2.1
        obtain ⟨cellV, g1, g2, g3⟩ := hr_recv hC.1 hW hy1 hr
        obtain ⟨kA, comp, r1, r2, r3, -⟩ := (hC.1.2 2 _ ht).2
        cases hk0.symm.trans r1
        cases hkk0.symm.trans r2
        have hasg := vb_asgC hn _ _ r3 g3
        obtain ⟨kC, hkC, -⟩ := Vm.findClass_spec g3
        obtain ⟨kE, hkE, -⟩ := Vm.findClass_spec r3
        obtain ⟨kC', hkC', -⟩ := hal.2.2 _ _ hkC
        obtain ⟨kE', hkE', -⟩ := hal.2.2 _ _ hkE
        refine ⟨rfl, cellV, (show T.heap[y]? = some cellV by rw [hT]; exact g1), (fun q h => by rw [h] at g2; cases g2), ⟨kC', hkC'⟩, ?_, ?_⟩
        · exact ⟨kE', hkE'⟩
        · show vm₁.assignable _ _ = true
          rw [hal.assignable]
          exact hasg)
    (g := F0 m pc ls (.int n :: .int dp :: .ref a :: .int sp :: .ref a0 :: rest)) rfl (by rw [hml]) (rest := rest) rfl (by rw [hb]; exact hdg) hframes (by show 2 * 0 + _ + _ ≤ _; omega)
  have e1 : copied (vp_cell (G.2.1 2) (z0.1, .inr (.inr (.inr (.inr z0.2))))) (vp_cell (G.2.1 2) (z1.1, .inr (.inr (.inr (.inr z1.2))))) sp dp n = vp_cell (G.2.1 2) (z1.1, .inr (.inr (.inr (.inr (va_cpy z0.2 z1.2 sp.toNatClampNeg dp.toNatClampNeg n.toNatClampNeg))))) := by
    rw [vp_cell_q, vp_cell_q, vp_cell_q]
    exact va_copied (fun z => va_rf z) (G.2.1 2) (G.2.1 2) z0.2 z1.2 h4
  rw [e1] at X' step
  have hl : a < H.size := (Array.getElem?_eq_some_iff.mp hc1).1
  generalize hcell : vp_cell (G.2.1 2) (z1.1, .inr (.inr (.inr (.inr (va_cpy z0.2 z1.2 sp.toNatClampNeg dp.toNatClampNeg n.toNatClampNeg))))) = cell at X' step
  have hheap : ((T.setVm vm').setCell a cell).heap = H.setIfInBounds a cell := by rw [← hT]; rfl
  have oq : ∀ q : Nat, q ≠ a → (H.setIfInBounds a cell)[q]? = H[q]? := fun q hq => by simp [Array.getElem?_setIfInBounds, Ne.symm hq]
  obtain ⟨t9, a1, b1⟩ := kk _ _ (hW.put (haR_o hz1) rfl (show (H.setIfInBounds a cell)[a]? = some (vp_cell _ _) by rw [← hcell]; simp [Array.getElem?_setIfInBounds, hl]) (by simp) oq) ⟨by simp; exact hS.1, fun q g1 g2 => by
      rw [oq q (fun e => g2 (by rw [e]; exact hAa))]
      exact hS.2.1 q g1 g2, fun q hq => by
      rcases List.mem_append.mp hq with h | h
      · exact hS.2.2 q h
      · obtain ⟨z, -, hz⟩ := List.mem_map.mp h
        rw [← hz]
        exact hAa⟩ _ hheap X'
  exact ⟨t9, step t9 a1, b1⟩
end HR2
