/-! THE COMPONENT'S WORLD, last rows: long arrays, handlers, what the law's wrappers answer. -/
set_option maxRecDepth 100000
section H4
variable {p : Program} {l : Launch} {e : Env} {R : Room} {s : State} {m : MethodId} {args : Array Value} {below : List Frame} {meth : Method} {c : Code} {H H0 : Heap} {locs : List Loc} {cells slots mc ms : Nat} {Q : State → Prop}
variable {cc : ByteArray} {pc : Nat} {ls : Array Slot} {rest : List Value} {G : HG} {A : Nat → Prop} {τ τ1 : HP}
theorem hr_lald {a : Nat} {z : Nat × (Nat → Int64)} {i : Int32} (hx : p.tables.exec = Jvm.exec) (hb : c.code = cc) (hK : Hk G s) (hW : Hw G A τ H) (hz : haL τ a 4 = some z) (hin : vp_in i z.1) (hdg : decode cc pc = .ok (.laload, 1))
    (kk : W p l e R s m args below meth c H locs cells slots Q (F0 m (pc + 1) ls (.long (z.2 i.toNatClampNeg) :: rest))) : W p l e R s m args below meth c H locs cells slots Q (F0 m pc ls (.int i :: .ref a :: rest)) := by
  have hlt : i.toNatClampNeg < z.1 := vp_lt hin
  exact W.lald (v := .long (z.2 i.toNatClampNeg)) hx hb (hW.2 a _ (haL_o hz)).1 ((hK.2 4 _ rfl).1 z.1 (fun j => .long (z.2 j))) (fun q => by cases q) (by show ¬ (i < 0 ∨ (arrV _ _ _).slots.size ≤ _); rw [arrV_size]; exact hin) (by show (arrV _ _ _).slots[_]? = _; rw [arrV_read _ _ hlt]) rfl rfl hdg kk
theorem h_storedL {cA : ClassId} {n i : Nat} {f : Nat → Int64} {v : Int64} : (vp_cell cA (n, .inr (.inl f))).setSlot i (.long v) = vp_cell cA (n, .inr (.inl (vp_updL f i v))) := by
  rw [vp_cell_l, vp_cell_l, arrV_store]
  congr 1
  funext q
  by_cases hq : q = i
  · subst hq
    simp [updV, vp_updL]
  · simp [updV, vp_updL, hq]
theorem hr_last {a : Nat} {z : Nat × (Nat → Int64)} {i : Int32} {v : Int64} (hx : p.tables.exec = Jvm.exec) (hb : c.code = cc) (hK : Hk G s) (hW : Hw G A τ H) (hS0 : va_S A H0 H locs) (hz : haL τ a 4 = some z) (hin : vp_in i z.1) (hσ : τ1 = hst τ a (.inl (4, z.1, .inr (.inl (vp_updL z.2 i.toNatClampNeg v))))) (hdg : decode cc pc = .ok (.lastore, 1))
    (kk : ∀ (H1 : Heap) (locs1 : List Loc), Hw G A τ1 H1 → va_S A H0 H1 locs1 → W p l e R s m args below meth c H1 locs1 cells slots Q (F0 m (pc + 1) ls rest)) : W p l e R s m args below meth c H locs cells slots Q (F0 m pc ls (.long v :: .int i :: .ref a :: rest)) := by
  subst hσ
  refine W.last hx hb (hW.2 a _ (haL_o hz)).1 ((hK.2 4 _ rfl).1 z.1 (fun j => .long (z.2 j))) (fun q => by cases q) (by show ¬ (i < 0 ∨ (arrV _ _ _).slots.size ≤ _); rw [arrV_size]; exact hin) rfl rfl hdg fun H1 e1 e2 oq => ?_
  exact kk H1 _ (hW.put (haL_o hz) rfl (by show H1[a]? = some (vp_cell _ (z.1, .inr (.inl _))); rw [e1]; exact congrArg some h_storedL) e2 oq) (hS0.put e2 oq ((hW.2 a _ (haL_o hz)).2 rfl))
/-- a Wrong comes to its handler -/
theorem hx_catchW {own : String} {E : String} {ce : Cell} {q : Addr} {x : Nat × Nat × HP} {Q : State → Prop} (hown : s.vm.findClass own = some m.cls) (hC : Hcx G A s) (pre : List ExceptionTableEntry) (z : ExceptionTableEntry) (suf : List ExceptionTableEntry) (hsplit : c.exceptionTable.toList = pre ++ z :: suf)
    (hpass : ∀ y ∈ pre, covers y pc = false) (hz : covers z pc = true) (h0 : z.catchType ≠ 0) (hlink : (Cond.classLink own z.catchType "WoolThreads$Wrong").before args s = true) (h4 : x.1 = 4) (hB : hXb G A E q x H) (hce : H[q]? = some ce) (hvn : ce.vm = .none) (hfc : s.vm.findClass E = some ce.cls)
    (kk : Hw G A x.2.2 H → W p l e R s m args below meth c H locs cells slots Q (F0 m z.handlerPc ls [.ref x.2.1])) : vx_W p l e R s m args below meth c H locs cells slots Q (F0 m pc ls rest) q := by
  obtain ⟨hE, h1, -⟩ := hB
  obtain ⟨rfl, hW⟩ := h1 h4
  rw [h4] at hE
  subst hE
  exact vx_catch (name := "WoolThreads$Wrong") hown pre z suf hsplit (fun y hy => Or.inl (hpass y hy)) hz h0 hlink (va_Nw.use rfl (hC.2.1.1 _ (hw_of q833 rfl))) hce hvn hfc (kk hW)
/-- an exception of the JDK comes to its handler -/
theorem hx_catchJ {own name : String} {E : String} {ce : Cell} {q : Addr} {x : Nat × Nat × HP} {Q : State → Prop} (k : Nat) (hown : s.vm.findClass own = some m.cls) (pre : List ExceptionTableEntry) (z : ExceptionTableEntry) (suf : List ExceptionTableEntry) (hsplit : c.exceptionTable.toList = pre ++ z :: suf)
    (hk : x.1 = k) (hk4 : k ≠ 4) (hn : hXn k = name) (hpass : ∀ y ∈ pre, covers y pc = false ∨ (y.catchType ≠ 0 ∧ ∃ nm : String, (Cond.classLink own y.catchType nm).before args s = true ∧ va_Nc name nm s)) (hz : covers z pc = true) (h0 : z.catchType ≠ 0) (hlink : (Cond.classLink own z.catchType name).before args s = true) (hcast : (Cond.castable name name).before args s = true) (hB : hXb G A E q x H) (hce : H[q]? = some ce) (hvn : ce.vm = .none) (hfc : s.vm.findClass E = some ce.cls)
    (kk : Hw G A (x.2.2.1, H.size) H → W p l e R s m args below meth c H locs cells slots Q (F0 m z.handlerPc ls [.ref q])) : vx_W p l e R s m args below meth c H locs cells slots Q (F0 m pc ls rest) q := by
  obtain ⟨hE, -, h1⟩ := hB
  rw [hk, hn] at hE
  subst hE
  exact vx_catch hown pre z suf hsplit hpass hz h0 hlink hcast hce hvn hfc (kk (h1 (by rw [hk]; exact hk4)))
/-- a new int[][] with its rows -/
def hmnew (τ : HP) (N K : Nat) : HP := (fun q => if q = τ.2 then some (.inl (6, N, .inr (.inr (.inr (.inr (fun i => some (τ.2 + 1 + i))))))) else if τ.2 < q ∧ q < τ.2 + 1 + N then some (.inl (0, K, .inl (fun _ => 0))) else τ.1 q, τ.2 + 1 + N)
theorem outerC_all (c : ClassId) (N h : Nat) : ∀ i, Jvm.Free.Multi.outerC c N h i = { cls := c, slots := (Jvm.Free.Multi.outerC c N h i).slots, vm := .none }
  | 0 => rfl
  | i + 1 => by
    show (Jvm.Free.Multi.outerC c N h i).setSlot i (.ref (h + 1 + i)) = _
    rw [outerC_all c N h i]
    rfl
theorem outerC_cell (c : ClassId) (N h : Nat) : Jvm.Free.Multi.outerC c N h N = vp_cell c (N, .inr (.inr (.inr (.inr (fun i => some (h + 1 + i)))))) := by
  rw [vp_cell_q, outerC_all]
  show _ = ({ cls := c, slots := Array.ofFn (n := N) fun j => va_rf (some (h + 1 + j.val)), vm := .none } : Cell)
  congr 1
  apply Array.ext_getElem?
  intro j
  by_cases hj : j < N
  · rw [Jvm.Free.Multi.outerC_slot c N h N j hj, if_pos hj]
    simp [hj, va_rf]
  · have h1 := (Jvm.Free.Multi.outerC_facts c N h N).2.2
    rw [Array.getElem?_eq_none (by omega), Array.getElem?_eq_none (by simp; omega)]
theorem innerC_cell (c : ClassId) (K : Nat) : Jvm.Free.Multi.innerC c K (defaultValue .int) = vp_cell c (K, .inl (fun _ => 0)) := by
  rw [vp_cell_i]
  show ({ cls := c, slots := Array.replicate K (defaultValue .int), vm := .none } : Cell) = { cls := c, slots := Array.ofFn (n := K) fun j => .int 0, vm := .none }
  congr 1
  apply Array.ext_getElem?
  intro j
  by_cases hj : j < K
  · simp [hj]; rfl
  · rw [Array.getElem?_eq_none (by simp; omega), Array.getElem?_eq_none (by simp; omega)]
theorem hr_mnew {own : String} {index : Nat} {n k : Int32} {N K : Nat} (hx : p.tables.exec = Jvm.exec) (hb : c.code = cc) (hts : ∀ w ∈ lw_all, w.before args s = true) (hown : s.vm.findClass own = some m.cls) (hK : Hk G s) (hT : Ht s) (hW : Hw G A τ H) (hS : va_S A H0 H locs) (hA : ∀ q, H0.size ≤ q → A q) (hlink : Cond.classLink own index "[[I" ∈ lw_all) (hn : ¬ n < 0) (hk : ¬ k < 0) (hN : n.toNatClampNeg = N) (hK2 : k.toNatClampNeg = K) (hb1 : N ≤ 100000) (hb2 : K ≤ 100000) (hσ : τ1 = hmnew τ N K) (hcells : cells + (1 + N) ≤ R.cells) (hslots : slots + (N + N * K) ≤ R.slots) (hdg : decode cc pc = .ok (.multianewarray index 2, 4))
    (kk : ∀ H1 : Heap, Hw G A τ1 H1 → va_S A H0 H1 locs → W p l e R s m args below meth c H1 locs (cells + (1 + N)) (slots + (N + N * K)) Q (F0 m (pc + 4) ls (.ref τ.2 :: rest))) : W p l e R s m args below meth c H locs cells slots Q (F0 m pc ls (.int k :: .int n :: rest)) := by
  subst hσ
  subst hN
  subst hK2
  intro T hTH X
  obtain ⟨vm₁, cA, comp, hW1, hfA, hfC, -, -, X1, step⟩ := X.multianewarray2F hx (own := own) (index := index) (ty := .int) hown (hts _ hlink) hT.2.2.2.2 (hts _ q162) (g := F0 m pc ls (.int k :: .int n :: rest)) rfl (by rw [hb]; exact hdg) (n := n) (k := k) (rest := rest) rfl hn hk (by omega) (by show k.toNatClampNeg * 4 ≤ _; omega) (by omega) rfl rfl hcells hslots
  have hcA : cA = G.2.1 6 := Option.some.inj (hfA.symm.trans (hK.2 6 _ rfl).2)
  have hcC : comp = G.2.1 0 := Option.some.inj (hfC.symm.trans (hK.2 0 _ rfl).2)
  subst hcA
  subst hcC
  have hsz : (T.setVm vm₁).heap.size = τ.2 := by rw [hW.1, ← hTH]; rfl
  have hh : (T.setVm vm₁).heap = H := by rw [← hTH]; rfl
  have f1 := (Jvm.Free.Multi.fill_facts (T.setVm vm₁) (G.2.1 6) (G.2.1 0) n.toNatClampNeg k.toNatClampNeg (defaultValue .int) n.toNatClampNeg).1
  have f2 := (Jvm.Free.Multi.fill_facts (T.setVm vm₁) (G.2.1 6) (G.2.1 0) n.toNatClampNeg k.toNatClampNeg (defaultValue .int) n.toNatClampNeg).2.1
  have f3 := fun j hj => Jvm.Free.Multi.fill_inner (T.setVm vm₁) (G.2.1 6) (G.2.1 0) n.toNatClampNeg k.toNatClampNeg (defaultValue .int) n.toNatClampNeg j hj
  have f4 := fun (a : Nat) ha => Jvm.Free.Multi.fill_old (T.setVm vm₁) (G.2.1 6) (G.2.1 0) n.toNatClampNeg k.toNatClampNeg (defaultValue .int) (a := a) ha n.toNatClampNeg
  rw [hsz] at f1 f2 f3 f4
  rw [hh] at f4
  rw [outerC_cell] at f2
  simp only [innerC_cell] at f3
  have hzH := hW.1
  generalize hU : Jvm.Free.Multi.fill (T.setVm vm₁) (G.2.1 6) (G.2.1 0) n.toNatClampNeg k.toNatClampNeg (defaultValue .int) n.toNatClampNeg = U at *
  have hA2 : ∀ q, τ.2 ≤ q → A q := fun q hq => hA q (by have := hS.1; omega)
  have hW' : Hw G A (hmnew τ n.toNatClampNeg k.toNatClampNeg) U.heap := by
    refine ⟨by show τ.2 + 1 + n.toNatClampNeg = _; rw [f1], fun q x hq => ?_⟩
    have hq : (if q = τ.2 then some (.inl (6, n.toNatClampNeg, .inr (.inr (.inr (.inr (fun i => some (τ.2 + 1 + i))))))) else if τ.2 < q ∧ q < τ.2 + 1 + n.toNatClampNeg then some (.inl (0, k.toNatClampNeg, .inl (fun _ => 0))) else τ.1 q) = some x := hq
    by_cases c1 : q = τ.2
    · rw [if_pos c1] at hq
      cases hq
      subst c1
      exact ⟨f2, fun _ => hA2 _ (Nat.le_refl _)⟩
    · rw [if_neg c1] at hq
      by_cases c2 : τ.2 < q ∧ q < τ.2 + 1 + n.toNatClampNeg
      · rw [if_pos c2] at hq
        cases hq
        obtain ⟨j, rfl⟩ : ∃ j, q = τ.2 + 1 + j := ⟨q - τ.2 - 1, by omega⟩
        exact ⟨f3 j (by omega), fun _ => hA2 _ (by omega)⟩
      · rw [if_neg c2] at hq
        obtain ⟨g1, g2⟩ := hW.2 q x hq
        exact ⟨g1.kept (f4 q (by rw [hzH]; exact g1.lt)), g2⟩
  have hS' : va_S A H0 U.heap locs := ⟨Nat.le_trans hS.1 (by rw [f1, ← hzH]; omega), fun x h1 h2 => (f4 x (by rw [hzH]; exact Nat.lt_of_lt_of_le h1 hS.1)).trans (hS.2.1 x h1 h2), hS.2.2⟩
  have X2 : Stand p l e R s m args below meth c U locs (cells + (1 + n.toNatClampNeg)) (slots + (n.toNatClampNeg + n.toNatClampNeg * k.toNatClampNeg)) := by
    rw [← Nat.add_assoc, ← Nat.add_assoc]; exact X1
  obtain ⟨t, a1, b1⟩ := kk U.heap hW' hS' U rfl X2
  refine ⟨t, step t ?_, b1⟩
  have ht : T.heap.size = τ.2 := by rw [hzH, hTH]
  rw [ht]
  exact a1
end H4
