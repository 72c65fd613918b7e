/-! THE HEAP DIALECT: methods that throw. A result is .inl (what is returned) or .inr (class, address, cells): class 4 is Wrong (its object at the address, in the abstract heap); 100, 101, 102 are the JDK's (their objects aren't in it). -/
set_option maxRecDepth 100000
def hXn (c : Nat) : String := match c with
  | 4 => "WoolThreads$Wrong"
  | 100 => "java/lang/IllegalArgumentException"
  | 101 => "java/util/NoSuchElementException"
  | _ => "java/lang/IndexOutOfBoundsException"
def hXb (G : HG) (A : Nat → Prop) (E : String) (q : Addr) (x : Nat × Nat × HP) (H : Heap) : Prop := E = hXn x.1 ∧ (x.1 = 4 → q = x.2.1 ∧ Hw G A x.2.2 H) ∧ (x.1 ≠ 4 → Hw G A (x.2.2.1, H.size) H)
def hXX {α : Type} (G : HG) (A : Nat → Prop) (w : α ⊕ (Nat × Nat × HP)) : String → Addr → State → State → Prop := vx_X (fun (x : Nat × Nat × HP) => Sum.inr x = w) (fun E q x t => hXb G A E q x t.heap) A
def hXi (G : HG) (A : Nat → Prop) (P : Int32 → HP → Prop) : Array Value → State → Outcome → State → Prop := va_Qi P (fun (u : HP) t => Hw G A u t.heap) A
def hXv (G : HG) (A : Nat → Prop) (P : HP → Prop) : Array Value → State → Outcome → State → Prop := va_Qv P (fun (u : HP) t => Hw G A u t.heap) A
def hXr (G : HG) (A : Nat → Prop) (P : Nat → HP → Prop) : Array Value → State → Outcome → State → Prop := va_Qr (fun (_ : HP) => True) (fun (u : HP) ra t => P ra u ∧ Hw G A u t.heap) A
section HX
variable {p : Program} {l : Launch} {e : Env} {R : Room} {s : State} {m : MethodId} {args : Array Value} {below : List Frame} {meth : Method} {c : Code} {H : Heap} {locs : List Loc} {cells slots mc ms : Nat} {Q : State → Prop}
variable {cc : ByteArray} {pc : Nat} {ls : Array Slot} {rest : List Value} {G : HG} {A : Nat → Prop} {τ τ1 : HP}
theorem hx_iret {v : Int32} {ty : FieldType} {P : Int32 → HP → Prop} (hx : p.tables.exec = Jvm.exec) (hb : c.code = cc) (hr : meth.sig.returnType = some ty) (hn : narrow ty (.int v) = .int v) (hlocks : meth.locks = false) (h1 : P v τ) (hW : Hw G A τ H) (hS : va_S A s.heap H locs) (hdg : decode cc pc = .ok (.ireturn, 1)) (hc : cells ≤ mc) (hs : slots ≤ ms) :
    W p l e R s m args below meth c H locs cells slots (MQ below (hXi G A P) args s mc ms A) (F0 m pc ls [.int v]) := by
  refine W.widen hc hs ?_
  exact W.zret hx hb hr hn (fun t ht hW' => ⟨⟨v, τ, rfl, h1, by show Hw G A τ t.heap; rw [ht]; exact hW⟩, hS.F ht⟩) hS.2.2 hdg hlocks
theorem hx_vret {P : HP → Prop} (hx : p.tables.exec = Jvm.exec) (hb : c.code = cc) (hr : meth.sig.returnType = none) (hlocks : meth.locks = false) (h1 : P τ) (hW : Hw G A τ H) (hS : va_S A s.heap H locs) (hdg : decode cc pc = .ok (.return_, 1)) (hc : cells ≤ mc) (hs : slots ≤ ms) :
    W p l e R s m args below meth c H locs cells slots (MQ below (hXv G A P) args s mc ms A) (F0 m pc ls []) := by
  refine W.widen hc hs ?_
  exact W.vret hx hb hr (fun t ht hW' => ⟨⟨τ, rfl, h1, by show Hw G A τ t.heap; rw [ht]; exact hW⟩, hS.F ht⟩) hS.2.2 hdg hlocks
theorem hx_aret {v : Nat} {ty : FieldType} {P : Nat → HP → Prop} (hx : p.tables.exec = Jvm.exec) (hb : c.code = cc) (hr : meth.sig.returnType = some ty) (hn : (∃ n, ty = .object n) ∨ ∃ t, ty = .array t) (hlocks : meth.locks = false) (h1 : P v τ) (hW : Hw G A τ H) (hS : va_S A s.heap H locs) (hdg : decode cc pc = .ok (.areturn, 1)) (hc : cells ≤ mc) (hs : slots ≤ ms) :
    W p l e R s m args below meth c H locs cells slots (MQ below (hXr G A P) args s mc ms A) (F0 m pc ls [.ref v]) := by
  refine W.widen hc hs ?_
  exact W.aret hx hb hr hn (Or.inr ⟨v, rfl⟩) (fun t ht hW' => ⟨⟨τ, v, rfl, trivial, h1, by show Hw G A τ t.heap; rw [ht]; exact hW⟩, hS.F ht⟩) hS.2.2 hdg hlocks
/-- an exception leaves the method -/
theorem hx_out {α : Type} {w : α ⊕ (Nat × Nat × HP)} {x : Nat × Nat × HP} {E : String} {ce : Cell} {q : Addr} {Qc : Array Value → State → Outcome → State → Prop} (hout : ∀ z ∈ c.exceptionTable.toList, covers z pc = false) (hlocks : meth.locks = false) (hce : H[q]? = some ce) (hvn : ce.vm = .none) (hfc : s.vm.findClass E = some ce.cls) (hw : Sum.inr x = w) (hB : hXb G A E q x H) (hS : va_S A s.heap H locs) (hc : cells ≤ mc) (hs : slots ≤ ms) :
    vx_W p l e R s m args below meth c H locs cells slots (vx_MQ below Qc (hXX G A w) args s mc ms A) (F0 m pc ls rest) q :=
  vx_out hout hlocks hce hvn hfc (fun t ht _ => ⟨x, hw, by show hXb G A E q x t.heap; rw [ht]; exact hB, hS.F ht⟩) hS.2.2 hc hs
/-- athrow of a Wrong that the abstract heap has -/
theorem hx_throwW {α : Type} {w : α ⊕ (Nat × Nat × HP)} {q : Nat} {Qc : Array Value → State → Outcome → State → Prop} (hx : p.tables.exec = Jvm.exec) (hb : c.code = cc) (hC : Hcx G A s) (hno : ∀ z ∈ c.exceptionTable.toList, False) (hlocks : meth.locks = false) (h : hcl τ q = some 4) (hw : Sum.inr (4, q, τ) = w) (hW : Hw G A τ H) (hS : va_S A s.heap H locs) (hdg : decode cc pc = .ok (.athrow, 1)) (hc : cells ≤ mc) (hs : slots ≤ ms) :
    W p l e R s m args below meth c H locs cells slots (vx_MQ below Qc (hXX G A w) args s mc ms A) (F0 m pc ls (.ref q :: rest)) := by
  obtain ⟨fs, h1⟩ := hcl_o h
  obtain ⟨r, hr, cell, q1, q2, q3, -⟩ := (hW.2 q _ h1).1
  cases (show clw[4]? = some (RX6, TX6, 8) from rfl).symm.trans hr
  have hf : s.vm.findClass RX6 = some cell.cls := by rw [q2]; exact (hC.1.1 4 _ rfl).2.1
  refine vx_athrow hx hb hdg ?_
  exact hx_out (fun z hz => (hno z hz).elim) hlocks q1 q3 hf hw ⟨rfl, fun _ => ⟨rfl, hW⟩, fun h => absurd rfl h⟩ hS hc hs
end HX
/-! the words of the JDK's throws -/
theorem hx_words {own cls : String} {ic : Nat} {names : List String} (h : (vx_at0 own ic cls names).all (fun w => decide (w ∈ lw_tbl) && (goodWord w || hwB w)) = true) {s : State} {args : Array Value} (hts : ∀ w ∈ lw_all, w.before args s = true) (hT : Ht s) : ∀ w ∈ vx_at0 own ic cls names, w.before args s = true := by
  intro w hw
  have h1 := List.all_eq_true.mp h w hw
  simp only [Bool.and_eq_true, Bool.or_eq_true, decide_eq_true_eq] at h1
  rcases h1.2 with g | g
  · exact hts w (lw_g h1.1 g)
  · have hz := hT.1 w (hw_of h1.1 g)
    unfold hwB at g
    split at g
    · exact va_Nw.use rfl hz
    · exact va_Nw.use rfl hz
    · exact va_Nw.use rfl hz
    · exact va_Nw.use rfl hz
    · cases g
/-! words of calls of inherited, overriding, abstract and super methods -/
theorem lw_U {own : String} {idx : Nat} {C owner : String} {x y : MethodName} {b : ByteArray} {L : Nat} {r : Option FieldType} (h1 : Cond.methodLink own idx x ∈ lw_all) (h2 : Cond.sameMethod x.cls owner x.name x.desc ∈ lw_all) (h3 : Cond.selects C x y ∈ lw_all) (h4 : Cond.instanceMethod y ∈ lw_all) (h5 : Cond.initialized y.cls ∈ lw_all) (h6 : Cond.code y b L r ∈ lw_all) : GoodIn lw_all (va_wsU own idx C owner x y (ws_ y b L r)) := by
  refine lw_app ?_ (lw_meth h6)
  intro w hw
  simp only [List.mem_cons, List.not_mem_nil, or_false] at hw
  rcases hw with e | e | e | e | e
  · rw [e]; exact h1
  · rw [e]; exact h2
  · rw [e]; exact h3
  · rw [e]; exact h4
  · rw [e]; exact h5
theorem lw_O {own : String} {idx : Nat} {C owner : String} {x y : MethodName} {b : ByteArray} {L : Nat} {r : Option FieldType} (h1 : Cond.methodLink own idx x ∈ lw_all) (h2 : Cond.sameMethod x.cls owner x.name x.desc ∈ lw_all) (h0 : Cond.instanceMethod ⟨owner, x.name, x.desc⟩ ∈ lw_all) (h3 : Cond.selects C x y ∈ lw_all) (h4 : Cond.instanceMethod y ∈ lw_all) (h5 : Cond.initialized y.cls ∈ lw_all) (h6 : Cond.code y b L r ∈ lw_all) : GoodIn lw_all (va_wsO own idx C owner x y (ws_ y b L r)) := by
  refine lw_app ?_ (lw_meth h6)
  intro w hw
  simp only [List.mem_cons, List.not_mem_nil, or_false] at hw
  rcases hw with e | e | e | e | e | e
  · rw [e]; exact h1
  · rw [e]; exact h2
  · rw [e]; exact h0
  · rw [e]; exact h3
  · rw [e]; exact h4
  · rw [e]; exact h5
theorem lw_SU {own : String} {idx : Nat} {y : MethodName} {b : ByteArray} {L : Nat} {r : Option FieldType} (h1 : Cond.methodLink own idx y ∈ lw_all) (h2 : Cond.sameMethod y.cls y.cls y.name y.desc ∈ lw_all) (h3 : Cond.superclass own y.cls ∈ lw_all) (h4 : Cond.instanceMethod y ∈ lw_all) (h5 : Cond.initialized y.cls ∈ lw_all) (h6 : Cond.code y b L r ∈ lw_all) : GoodIn lw_all (va_wsSU own idx y (ws_ y b L r)) := by
  refine lw_app ?_ (lw_meth h6)
  intro w hw
  simp only [List.mem_cons, List.not_mem_nil, or_false] at hw
  rcases hw with e | e | e | e | e
  · rw [e]; exact h1
  · rw [e]; exact h2
  · rw [e]; exact h3
  · rw [e]; exact h4
  · rw [e]; exact h5

theorem wt_lkd (l : List (Int × Int)) (d k : Int) (h : ∀ q ∈ l, ¬ k = q.1) : Op.lookupswitch.offset l d k = d := by
  refine Op.lookupswitch.offset_none ?_
  rw [List.find?_eq_none]
  intro q hq
  have := h q hq
  simp only [beq_iff_eq]
  exact fun e => this e.symm
theorem eci_ts {s : State} {args : Array Value} (hts : ∀ w ∈ lw_all, w.before args s = true) (hT : Ht s) : ∀ w ∈ w_eci :: lw_all, w.before args s = true := by
  intro w hw
  rcases List.mem_cons.mp hw with e | e
  · rw [e]; exact va_tabs rfl rfl hT.2.2.2.1
  · exact hts w e
theorem lw_Ueci {own : String} {idx : Nat} (h1 : Cond.methodLink own idx ⟨"java/lang/AbstractStringBuilder", "ensureCapacityInternal", "(I)V"⟩ ∈ lw_all) : GoodIn (w_eci :: lw_all) (va_wsU own idx "java/lang/StringBuilder" "java/lang/AbstractStringBuilder" ⟨"java/lang/AbstractStringBuilder", "ensureCapacityInternal", "(I)V"⟩ yJ7_ensureCapacityInternal (ws_ yJ7_ensureCapacityInternal cJ7_ensureCapacityInternal 3 none)) := by
  have up : ∀ w, w ∈ lw_all → w ∈ w_eci :: lw_all ∧ _ := fun w h => ⟨List.mem_cons_of_mem _ h, (lw_self w h).2⟩
  intro w hw
  unfold va_wsU at hw
  rcases List.mem_append.mp hw with e | e
  · simp only [List.mem_cons, List.not_mem_nil, or_false] at e
    rcases e with e | e | e | e | e
    · rw [e]; exact up _ h1
    · rw [e]; exact up _ q2012
    · rw [e]; exact ⟨List.mem_cons_self, good_of_word rfl⟩
    · rw [e]; exact up _ q274
    · rw [e]; exact up _ q76
  · have := lw_meth q275 w e
    exact ⟨List.mem_cons_of_mem _ this.1, this.2⟩

/-! Throwable's two statics: null or a reference, whatever they are -/
theorem wt_nrf {ty : FieldType} (x : Option Nat) (h : (match ty with | .object _ | .array _ => true | _ => false) = true) : narrow ty (va_rf x) = va_rf x := by
  cases ty <;> first | (cases x <;> rfl) | exact absurd h (by decide)
theorem wt_frf {ty : FieldType} (x : Option Nat) (h : (match ty with | .object _ | .array _ => true | _ => false) = true) : fits ty (va_rf x) = true := by
  cases ty <;> first | (cases x <;> rfl) | exact absurd h (by decide)
theorem wt_us {A : Nat → Prop} {U : State} {H : Heap} (h : Hz A U H) : ∃ us : Nat → Option Nat, va_Z Bundle.tN "UNASSIGNED_STACK" Bundle.steD (va_rf (us 0)) A U H ∧ va_Z Bundle.tN "SUPPRESSED_SENTINEL" Bundle.listD (va_rf (us 1)) A U H := by
  rcases h.2.1.1 with h0 | ⟨t0, h0⟩ <;> rcases h.2.2.1 with h1 | ⟨t1, h1⟩
  · exact ⟨fun _ => none, h0, h1⟩
  · exact ⟨fun i => if i = 0 then none else some t1, h0, h1⟩
  · exact ⟨fun i => if i = 0 then some t0 else none, h0, h1⟩
  · exact ⟨fun i => if i = 0 then some t0 else some t1, h0, h1⟩
section HXR
variable {p : Program} {l : Launch} {e : Env} {R : Room} {s : State} {m : MethodId} {args : Array Value} {below : List Frame} {meth : Method} {c : Code} {H H0 : Heap} {locs : List Loc} {cells slots mc ms pc : Nat} {Q : State → Prop} {ls : Array Slot} {rest st0 : List Value} {A0 A1 free : Nat → Prop} {a : Array Value}
/-- .. a call that answers with a reference, or throws -/
theorem vx_callr {S SX : Type} {post : S → Prop} {px : SX → Prop} {B : S → Nat → State → Prop} {BX : String → Addr → SX → State → Prop} {AX : Nat → Prop} (hr : vx_Run p l e R s m args below meth c H locs cells slots mc ms (F0 m pc ls st0) rest (va_Qr post B A1 a) (vx_X px BX AX) free) (hS : va_S A0 H0 H locs) (hA : ∀ q, q < H.size → A1 q → A0 q) (hf : ∀ q, free q → A0 q) (hAX : ∀ q, q < H.size → AX q → A0 q)
    (kx : ∀ (E : String) (ce : Cell) (q9 : Addr) (u : SX) (t : State) (H1 : Heap) (locs1 : List Loc), t.heap = H1 → s.vm.Alike t.vm → px u → BX E q9 u t → H.size ≤ H1.size → (∀ q : Nat, q < H.size → ¬ AX q → H1[q]? = H[q]?) → va_S A0 H0 H1 locs1 → H1[q9]? = some ce → ce.vm = .none → s.vm.findClass E = some ce.cls → vx_W p l e R s m args below meth c H1 locs1 (cells + mc) (slots + ms) Q (F0 m pc ls rest) q9)
    (kk : ∀ (u : S) (ra : Nat) (t : State) (H1 : Heap) (locs1 : List Loc), t.heap = H1 → s.vm.Alike t.vm → post u → B u ra t → H.size ≤ H1.size → (∀ q : Nat, q < H.size → ¬ A1 q → H1[q]? = H[q]?) → va_S A0 H0 H1 locs1 → W p l e R s m args below meth c H1 locs1 (cells + mc) (slots + ms) Q (F0 m (pc + 3) ls (.ref ra :: rest))) : W p l e R s m args below meth c H locs cells slots Q (F0 m pc ls st0) := by
  intro T hT X
  rcases hr T hT X with ⟨v, st₀, t, T', L, h0, X', hL, e1, e2, ⟨⟨u, ra, hv, hp, hb⟩, hF⟩, st⟩ | ⟨q, st₀, t, T', L, E, ce, h0, X', hL, e1, e2, ⟨u, hp, hb, hF⟩, hce, hcv, hcl, st⟩
  · cases hv
    obtain ⟨k1, k2, k3⟩ := vx_keep h0 e1 hS hA hf hL hF
    obtain ⟨t2, a1, b1⟩ := kk u ra t T'.heap (locs ++ L) e1.symm (by rw [← e2]; exact X'.warmed.alike) hp hb k1 k2 k3 T' rfl X'
    exact ⟨t2, st t2 a1, b1⟩
  · obtain ⟨k1, k2, k3⟩ := vx_keep h0 e1 hS hAX hf hL hF
    obtain ⟨t2, a1, b1⟩ := kx E ce q u t T'.heap (locs ++ L) e1.symm (by rw [← e2]; exact X'.warmed.alike) hp hb k1 k2 k3 (by rw [e1]; exact hce) hcv hcl T' rfl X'
    exact ⟨t2, st.trans a1, b1⟩
end HXR
