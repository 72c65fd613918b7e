/-! THE COMPONENT'S WORLD: an abstract heap. A cell is an object (its class by its place in clw, its fields) or an array (its kind, length, contents); the next new address is known. A row an instruction. -/
set_option maxRecDepth 100000
abbrev HC : Type := (Nat × vp_A) ⊕ (Nat × List Value)
abbrev HH : Type := Nat → Option HC
/-- (cells, the next new address) -/
abbrev HP : Type := HH × Nat
/-- ((classes' numbers, fields' slots), array classes' numbers, the String constants' addresses) -/
abbrev HG : Type := va_G × (Nat → ClassId) × (Nat → Nat)
def tyw : List FieldType := [.int, .byte, .object "java/lang/Object", .object "WoolThreads$State", .long, .byte, .array .int]
def clw : List vw_C := [(RX1, TX1, 8), (RX2, TX2, 8), (RX3, TX3, 4), (RX5, TX5, 4), (RX6, TX6, 8), (RX8, TX8, 3), (RX9, TX9, 3), (RX10, TX10, 3), (RX11, TX11, 7), (RX12, TX12, 3), (RX13, TX13, 4), (RX14, TX14, 2), (RX15, TX15, 3), (RJ2, TJ2, 3), (RJ8, TJ8, 4), (RJ9, TJ9, 4), (RJ9, TJ9, 4), (RX4, TX4, 50)]
theorem clw_in : ∀ r ∈ clw, ∀ w ∈ u_ws r.1 r.2.1 r.2.2, w ∈ lw_all := by
  intro r hr
  simp only [clw, List.mem_cons, List.not_mem_nil, or_false] at hr
  rcases hr with e | e | e | e | e | e | e | e | e | e | e | e | e | e | e | e | e | e <;> subst e
  · exact in_X1
  · exact in_X2
  · exact in_X3
  · exact in_X5
  · exact in_X6
  · exact in_X8
  · exact in_X9
  · exact in_X10
  · exact in_X11
  · exact in_X12
  · exact in_X13
  · exact in_X14
  · exact in_X15
  · exact in_J2
  · exact in_J8
  · exact in_J9
  · exact in_J9
  · exact in_X4
theorem clw_ty : ∀ r ∈ clw, ∃ ty : Nat → FieldType, ∀ k, k < r.2.2 → parseFieldDescriptor (r.2.1 k).2.2.1 = some (ty k) := by
  intro r hr
  simp only [clw, List.mem_cons, List.not_mem_nil, or_false] at hr
  rcases hr with e | e | e | e | e | e | e | e | e | e | e | e | e | e | e | e | e | e <;> subst e
  · exact ⟨_, tyX1_ok⟩
  · exact ⟨_, tyX2_ok⟩
  · exact ⟨_, tyX3_ok⟩
  · exact ⟨_, tyX5_ok⟩
  · exact ⟨_, tyX6_ok⟩
  · exact ⟨_, tyX8_ok⟩
  · exact ⟨_, tyX9_ok⟩
  · exact ⟨_, tyX10_ok⟩
  · exact ⟨_, tyX11_ok⟩
  · exact ⟨_, tyX12_ok⟩
  · exact ⟨_, tyX13_ok⟩
  · exact ⟨_, tyX14_ok⟩
  · exact ⟨_, tyX15_ok⟩
  · exact ⟨_, tyJ2_ok⟩
  · exact ⟨_, tyJ8_ok⟩
  · exact ⟨_, tyJ9_ok⟩
  · exact ⟨_, tyJ9_ok⟩
  · exact ⟨_, tyX4_ok⟩
theorem clw_nm : ∀ r ∈ clw, ∀ a, a < r.2.2 → ∀ b, b < r.2.2 → a ≠ b → (r.2.1 a).2.1 ≠ (r.2.1 b).2.1 := by
  intro r hr
  simp only [clw, List.mem_cons, List.not_mem_nil, or_false] at hr
  rcases hr with e | e | e | e | e | e | e | e | e | e | e | e | e | e | e | e | e | e <;> subst e
  · exact nmX1
  · exact nmX2
  · exact nmX3
  · exact nmX5
  · exact nmX6
  · exact nmX8
  · exact nmX9
  · exact nmX10
  · exact nmX11
  · exact nmX12
  · exact nmX13
  · exact nmX14
  · exact nmX15
  · exact nmJ2
  · exact nmJ8
  · exact nmJ9
  · exact nmJ9
  · exact nmX4
def hAt (G : HG) (q : Nat) (x : HC) (H : Heap) : Prop := match x with
  | .inl a => H[q]? = some (vp_cell (G.2.1 a.1) a.2)
  | .inr o => ∃ r : vw_C, clw[o.1]? = some r ∧ t_OB q (G.1.1 o.1) r.2.2 (G.1.2 o.1) H (vp_V o.2)
/-- cells that may be written: all but the String constants and their bytes -/
def hrw (x : HC) : Bool := match x with
  | .inl a => decide (a.1 ≠ 5)
  | .inr o => decide (o.1 ≠ 16)
/-- the abstract heap τ is the heap H's part at the addresses A -/
def Hw (G : HG) (A : Nat → Prop) (τ : HP) (H : Heap) : Prop := τ.2 = H.size ∧ ∀ (q : Nat) (x : HC), τ.1 q = some x → hAt G q x H ∧ (hrw x = true → A q)
def hTy (G : HG) : List (ClassId × FieldType) := [(G.2.1 0, .int), (G.2.1 1, .byte), (G.2.1 2, .object "java/lang/Object"), (G.2.1 3, .object "WoolThreads$State"), (G.2.1 4, .long), (G.2.1 5, .byte), (G.2.1 6, .array .int)]
def Hk (G : HG) (U : State) : Prop := va_K G.1 clw (hTy G) U
theorem Hk.moved {G : HG} {u U : State} (hvm : u.vm.Alike U.vm) (h : Hk G u) : Hk G U := va_K.moved hvm h
theorem hAt.kept {G : HG} {q : Nat} {x : HC} {H H1 : Heap} (h : hAt G q x H) (hq : H1[q]? = H[q]?) : hAt G q x H1 := by
  cases x with
  | inl a => exact hq.trans h
  | inr o =>
    obtain ⟨r, h1, h2⟩ := h
    exact ⟨r, h1, h2.kept hq⟩
theorem hAt.lt {G : HG} {q : Nat} {x : HC} {H : Heap} (h : hAt G q x H) : q < H.size := by
  cases x with
  | inl a => exact (Array.getElem?_eq_some_iff.mp h).1
  | inr o =>
    obtain ⟨r, h1, cell, h2, -⟩ := h
    exact (Array.getElem?_eq_some_iff.mp h2).1
theorem Hw.kept {G : HG} {A : Nat → Prop} {τ : HP} {H H1 : Heap} (h : Hw G A τ H) (hz : H1.size = H.size) (hq : ∀ q : Nat, q < H.size → H1[q]? = H[q]?) : Hw G A τ H1 := ⟨h.1.trans hz.symm, fun q x hx => ⟨(h.2 q x hx).1.kept (hq q (h.2 q x hx).1.lt), (h.2 q x hx).2⟩⟩
/-! what an instruction reads and writes -/
def wt_min (x y : Int32) : Int32 := if y < x then y else x
def wt_max (x y : Int32) : Int32 := if x < y then y else x
def wt_abs (x : Int32) : Int32 := if 0 ≤ x then x else 0 - x
def hg (τ : HP) (a : Nat) (cs : List Nat) (k : Nat) : Option Value := match τ.1 a with
  | some (.inr (c, fs)) => if cs.contains c = true then fs[k]? else none
  | _ => none
def hgI (τ : HP) (a : Nat) (cs : List Nat) (k : Nat) : Option Int32 := match hg τ a cs k with
  | some (.int v) => some v
  | _ => none
def hgA (τ : HP) (a : Nat) (cs : List Nat) (k : Nat) : Option Nat := match hg τ a cs k with
  | some (.ref q) => some q
  | _ => none
def hgR (τ : HP) (a : Nat) (cs : List Nat) (k : Nat) : Option (Option Nat) := match hg τ a cs k with
  | some (.ref q) => some (some q)
  | some .null => some none
  | _ => none
def hst (τ : HP) (a : Nat) (x : HC) : HP := (fun q => if q = a then some x else τ.1 q, τ.2)
def hp (τ : HP) (a : Nat) (cs : List Nat) (k : Nat) (v : Value) : Option HP := match τ.1 a with
  | some (.inr (c, fs)) => if (cs.contains c = true ∧ c ≠ 16) ∧ k < fs.length then some (hst τ a (.inr (c, fs.set k v))) else none
  | _ => none
def haI (τ : HP) (a t : Nat) : Option (Nat × (Nat → Int32)) := match τ.1 a with
  | some (.inl (t', n, .inl f)) => if t' = t then some (n, f) else none
  | _ => none
def haL (τ : HP) (a t : Nat) : Option (Nat × (Nat → Int64)) := match τ.1 a with
  | some (.inl (t', n, .inr (.inl f))) => if t' = t then some (n, f) else none
  | _ => none
def haR (τ : HP) (a t : Nat) : Option (Nat × (Nat → Option Nat)) := match τ.1 a with
  | some (.inl (t', n, .inr (.inr (.inr (.inr f))))) => if t' = t then some (n, f) else none
  | _ => none
def hln (τ : HP) (a t : Nat) : Option Nat := match τ.1 a with
  | some (.inl (t', n, _)) => if t' = t then some n else none
  | _ => none
def hcl (τ : HP) (a : Nat) : Option Nat := match τ.1 a with
  | some (.inr (c, _)) => some c
  | _ => none
def hnew (τ : HP) (x : HC) : HP := (fun q => if q = τ.2 then some x else τ.1 q, τ.2 + 1)
theorem hgI_o {τ : HP} {a k : Nat} {cs : List Nat} {v : Int32} (h : hgI τ a cs k = some v) : hg τ a cs k = some (.int v) := by
  unfold hgI at h
  split at h
  · rename_i h2; cases h; exact h2
  · cases h
theorem hgA_o {τ : HP} {a k : Nat} {cs : List Nat} {v : Nat} (h : hgA τ a cs k = some v) : hg τ a cs k = some (.ref v) := by
  unfold hgA at h
  split at h
  · rename_i h2; cases h; exact h2
  · cases h
theorem hgR_o {τ : HP} {a k : Nat} {cs : List Nat} {v : Option Nat} (h : hgR τ a cs k = some v) : hg τ a cs k = some (va_rf v) := by
  unfold hgR at h
  split at h
  · rename_i h2; cases h; exact h2
  · rename_i h2; cases h; exact h2
  · cases h
theorem hg_o {τ : HP} {a k : Nat} {cs : List Nat} {v : Value} (h : hg τ a cs k = some v) : ∃ c fs, τ.1 a = some (.inr (c, fs)) ∧ c ∈ cs ∧ fs[k]? = some v := by
  unfold hg at h
  split at h
  · rename_i c fs h2
    split at h
    · rename_i h3
      exact ⟨c, fs, h2, by simpa using h3, h⟩
    · cases h
  · cases h
theorem hp_o {τ τ1 : HP} {a k : Nat} {cs : List Nat} {v : Value} (h : hp τ a cs k v = some τ1) : ∃ c fs, τ.1 a = some (.inr (c, fs)) ∧ c ∈ cs ∧ c ≠ 16 ∧ k < fs.length ∧ τ1 = hst τ a (.inr (c, fs.set k v)) := by
  unfold hp at h
  split at h
  · rename_i c fs h2
    split at h
    · rename_i h3
      cases h
      exact ⟨c, fs, h2, by simpa using h3.1.1, h3.1.2, h3.2, rfl⟩
    · cases h
  · cases h
theorem haI_o {τ : HP} {a t : Nat} {z : Nat × (Nat → Int32)} (h : haI τ a t = some z) : τ.1 a = some (.inl (t, z.1, .inl z.2)) := by
  unfold haI at h
  split at h
  · rename_i h2
    split at h
    · rename_i h3; subst h3; cases h; exact h2
    · cases h
  · cases h
theorem haL_o {τ : HP} {a t : Nat} {z : Nat × (Nat → Int64)} (h : haL τ a t = some z) : τ.1 a = some (.inl (t, z.1, .inr (.inl z.2))) := by
  unfold haL at h
  split at h
  · rename_i h2
    split at h
    · rename_i h3; subst h3; cases h; exact h2
    · cases h
  · cases h
theorem haR_o {τ : HP} {a t : Nat} {z : Nat × (Nat → Option Nat)} (h : haR τ a t = some z) : τ.1 a = some (.inl (t, z.1, .inr (.inr (.inr (.inr z.2))))) := by
  unfold haR at h
  split at h
  · rename_i h2
    split at h
    · rename_i h3; subst h3; cases h; exact h2
    · cases h
  · cases h
theorem hln_o {τ : HP} {a t n : Nat} (h : hln τ a t = some n) : ∃ f, τ.1 a = some (.inl (t, n, f)) := by
  unfold hln at h
  split at h
  · rename_i t' n' f h2
    split at h
    · rename_i h3; subst h3; cases h; exact ⟨f, h2⟩
    · cases h
  · cases h
theorem hcl_o {τ : HP} {a c : Nat} (h : hcl τ a = some c) : ∃ fs, τ.1 a = some (.inr (c, fs)) := by
  unfold hcl at h
  split at h
  · rename_i c' fs h2; cases h; exact ⟨fs, h2⟩
  · cases h
/-- one cell is written -/
theorem Hw.put {G : HG} {A : Nat → Prop} {τ : HP} {H H1 : Heap} {a : Nat} {x0 x : HC} (h : Hw G A τ H) (h0 : τ.1 a = some x0) (hr : hrw x0 = true) (h1 : hAt G a x H1) (z : H1.size = H.size) (oq : ∀ q : Nat, q ≠ a → H1[q]? = H[q]?) : Hw G A (hst τ a x) H1 := by
  refine ⟨h.1.trans z.symm, fun q y hy => ?_⟩
  by_cases hq : q = a
  · subst hq
    have e : (hst τ q x).1 q = some x := by simp [hst]
    cases e.symm.trans hy
    exact ⟨h1, fun _ => (h.2 q x0 h0).2 hr⟩
  · have e : (hst τ a x).1 q = τ.1 q := by simp [hst, hq]
    rw [e] at hy
    exact ⟨(h.2 q y hy).1.kept (oq q hq), (h.2 q y hy).2⟩
/-- one cell is made -/
theorem Hw.made {G : HG} {A : Nat → Prop} {τ : HP} {H H1 : Heap} {x : HC} (h : Hw G A τ H) (h1 : hAt G H.size x H1) (z : H1.size = H.size + 1) (oq : ∀ q : Nat, q < H.size → H1[q]? = H[q]?) (hA : A H.size) : Hw G A (hnew τ x) H1 := by
  refine ⟨by show τ.2 + 1 = _; rw [h.1, z], fun q y hy => ?_⟩
  by_cases hq : q = τ.2
  · subst hq
    have e : (hnew τ x).1 τ.2 = some x := by simp [hnew]
    cases e.symm.trans hy
    rw [h.1]
    exact ⟨h1, fun _ => hA⟩
  · have e : (hnew τ x).1 q = τ.1 q := by simp [hnew, hq]
    rw [e] at hy
    exact ⟨(h.2 q y hy).1.kept (oq q (h.2 q y hy).1.lt), (h.2 q y hy).2⟩
/-- the class c's field k is this -/
def hfB (cs : List Nat) (k : Nat) (decl name desc : String) (fin : Bool) : Bool := cs.all (fun c => match clw[c]? with
  | some r => decide (k < r.2.2) && (decide ((r.2.1 k).1 = decl) && (decide ((r.2.1 k).2.1 = name) && (decide ((r.2.1 k).2.2.1 = desc) && decide ((r.2.1 k).2.2.2 = fin))))
  | none => false)
theorem hfB_o {cs : List Nat} {k : Nat} {decl name desc : String} {fin : Bool} (h : hfB cs k decl name desc fin = true) {c : Nat} (hc : c ∈ cs) : ∃ C T N, clw[c]? = some (C, T, N) ∧ k < N ∧ T k = (decl, name, desc, fin) := by
  have h1 := List.all_eq_true.mp h c hc
  split at h1
  · rename_i r hr
    obtain ⟨C, T, N⟩ := r
    simp only [Bool.and_eq_true, decide_eq_true_eq] at h1
    obtain ⟨a1, a2, a3, a4, a5⟩ := h1
    exact ⟨C, T, N, hr, a1, Prod.ext a2 (Prod.ext a3 (Prod.ext a4 a5))⟩
  · cases h1
/-! the tables' words that don't ride in lw_all -/
def hwB (w : Cond) : Bool := match w with
  | .fieldLinkNest .. => true
  | .methodLinkNest .. => true
  | .castable .. => true
  | .declares .. => true
  | _ => false
theorem hw_warm {w : Cond} (h : hwB w = true) {s U : State} (hW : s.WarmedH U.vm) (hZ : va_Nw w s) : va_Nw w U := by
  unfold hwB at h
  split at h
  · exact va_Nw.warmF hW hZ
  · exact va_Nw.warmM hW hZ
  · exact va_Nw.warmC hW hZ
  · exact va_Nw.warmD hW hZ
  · cases h
def hwl : List Cond := lw_tbl.filter hwB
/-- a private method of StringBuilder's superclass is selected on a StringBuilder -/
abbrev w_eci : Cond := .selects "java/lang/StringBuilder" ⟨"java/lang/AbstractStringBuilder", "ensureCapacityInternal", "(I)V"⟩ ⟨"java/lang/AbstractStringBuilder", "ensureCapacityInternal", "(I)V"⟩
/-- there is a class of int[][] (follows va_AO of the kit) -/
def h_AI (U : State) : Prop := (Cond.arrayOver (.array .int)).before #[] U = true
theorem h_AI_spec {U : State} (h : h_AI U) : ∃ comp c k, U.vm.findClass (FieldType.array .int).toString = some comp ∧ (U.vm.classes.findIdx? fun x => match x.kind with | .array component _ => component == comp | _ => false) = some c ∧ U.vm.classes[c]? = some k ∧ k.kind = .array comp (.array .int) ∧ U.vm.findClass ("[" ++ (FieldType.array .int).toString) = some c := by
  unfold h_AI Cond.before at h
  simp only [Cond.holds, Cond.value, beq_iff_eq] at h
  cases hc : U.vm.findClass (FieldType.array .int).toString with
  | none => simp [hc] at h
  | some comp =>
    simp only [hc, Option.bind_some, Option.bind_eq_some_iff, Option.map_eq_some_iff] at h
    obtain ⟨c, hi, k, hk, hb⟩ := h
    obtain ⟨hlt, hp, -⟩ := Array.findIdx?_eq_some_iff_getElem.mp hi
    have hkk : U.vm.classes[c] = k := (Array.getElem?_eq_some_iff.mp hk).2
    rw [hkk] at hp
    cases hkind : k.kind with
    | array component ty =>
      rw [hkind] at hb hp
      simp at hb hp
      exact ⟨comp, c, k, rfl, hi, hk, by rw [hkind, hp, hb.1], hb.2⟩
    | _ => rw [hkind] at hb; simp at hb
theorem h_AI.moved {u U : State} (hvm : u.vm.Alike U.vm) (h : h_AI u) : h_AI U := by
  obtain ⟨comp, c, k, h1, h2, h3, h4, h5⟩ := h_AI_spec h
  obtain ⟨k', hk', he⟩ := hvm.2.2 _ _ h3
  have hi : (U.vm.classes.findIdx? fun (x : Class) => match x.kind with | .array component _ => component == comp | _ => false) = some c := by
    have e1 := va_idx_bare U.vm comp
    have e2 := va_idx_bare u.vm comp
    have e3 : u.vm.bare = U.vm.bare := by first | exact hvm.bare_eq | exact hvm.bare_eq.symm
    rw [e3] at e2
    exact e1.symm.trans (e2.trans h2)
  have hkind : k'.kind = .array comp (.array .int) := by rw [he]; exact h4
  have f1 : U.vm.findClass (FieldType.array .int).toString = some comp := by rw [hvm.findClass]; exact h1
  have f2 : U.vm.findClass ("[" ++ (FieldType.array .int).toString) = some c := by rw [hvm.findClass]; exact h5
  unfold h_AI Cond.before Cond.holds
  simp only [Cond.value]
  rw [f1, Option.bind_some]
  refine (congrArg (fun o : Option Nat => (o.bind (fun c => (U.vm.classes[c]?).map fun (k : Class) => match k.kind with | .array _ ty => decide (ty = FieldType.array .int) && decide (U.vm.findClass ("[" ++ (FieldType.array .int).toString) = some c) | _ => false) == some true)) hi).trans ?_
  simp [hk', hkind, f2]
def Ht (U : State) : Prop := (∀ w ∈ hwl, va_Nw w U) ∧ va_AO "java/lang/Object" U ∧ va_AO "WoolThreads$State" U ∧ w_eci.before #[] U = true ∧ h_AI U
theorem hw_of {w : Cond} (h : w ∈ lw_tbl) (g : hwB w = true) : w ∈ hwl := List.mem_filter.mpr ⟨h, g⟩
theorem Ht.warm {s U : State} (hW : s.WarmedH U.vm) (h : Ht s) : Ht U := ⟨fun w hw => hw_warm (List.mem_filter.mp hw).2 hW (h.1 w hw), va_AO.moved hW.alike h.2.1, va_AO.moved hW.alike h.2.2.1, word_at hW (Or.inl rfl) h.2.2.2.1, h_AI.moved hW.alike h.2.2.2.2⟩
theorem Ht.same {s U : State} (hvm : s.vm = U.vm) (h : Ht s) : Ht U := by
  have ha : s.vm.Alike U.vm := by rw [hvm]; exact Vm.Alike.refl _
  refine ⟨fun w hw => ?_, va_AO.moved ha h.2.1, va_AO.moved ha h.2.2.1, va_tabs rfl hvm h.2.2.2.1, h_AI.moved ha h.2.2.2.2⟩
  have hb := (List.mem_filter.mp hw).2
  have hz := h.1 w hw
  unfold hwB at hb
  split at hb
  · exact va_Nw.same rfl hvm hz
  · exact va_Nw.same rfl hvm hz
  · exact va_Nw.same rfl hvm hz
  · exact va_Nw.same rfl hvm hz
  · cases hb
section HR
variable {p : Program} {l : Launch} {e : Env} {R : Room} {s : State} {m : MethodId} {args : Array Value} {below : List Frame} {meth : Method} {c : Code} {H : Heap} {locs : List Loc} {cells slots : Nat} {Q : State → Prop}
variable {cc : ByteArray} {pc : Nat} {ls : Array Slot} {rest : List Value} {G : HG} {A : Nat → Prop} {τ τ1 : HP} {H0 : Heap}
theorem hr_get {own ref decl name desc : String} {fin : Bool} {cs : List Nat} {k a index : Nat} {v : Value} (hx : p.tables.exec = Jvm.exec) (hb : c.code = cc) (hts : ∀ w ∈ lw_all, w.before args s = true) (hown : s.vm.findClass own = some m.cls) (hK : Hk G s) (hW : Hw G A τ H) (hv : hg τ a cs k = some v) (hf : hfB cs k decl name desc fin = true) (hsame : ∀ x, s.fieldFound? decl name desc = some x → s.fieldFound? ref name desc = some x) (hlink : Cond.fieldLink own index ref name desc ∈ lw_all) (hdg : decode cc pc = .ok (.getfield index, 3))
    (kk : W p l e R s m args below meth c H locs cells slots Q (F0 m (pc + 3) ls (v :: rest))) : W p l e R s m args below meth c H locs cells slots Q (F0 m pc ls (.ref a :: rest)) := by
  obtain ⟨ci, fs, h1, hc, h2⟩ := hg_o hv
  obtain ⟨C, T, N, hcl, hk, hT⟩ := hfB_o hf hc
  obtain ⟨r, hr, cell, q1, q2, q3, q4⟩ := (hW.2 a _ h1).1
  cases hcl.symm.trans hr
  have hin := clw_in _ (List.mem_of_getElem? hcl)
  obtain ⟨hS, hfc, kC, hkC, hkind⟩ := hK.1 ci _ hcl
  obtain ⟨cf, kf, fi, f, hi, hsl⟩ := hS k hk
  have hst := (u_facts hfc hkC (u_lays hts hin hk) hi).1
  simp only [hT] at hi
  refine W.getf hx hb hown (hts _ hlink) (hsame _ hi) hst q1 (by rw [q3]; exact fun h => by cases h) (v := v) ?_ rfl rfl hdg kk
  rw [hsl, q4 k hk]
  simp [vp_V, h2]
theorem hr_getN {own ref decl name desc host : String} {fin : Bool} {cs : List Nat} {k a index : Nat} {v : Value} (hx : p.tables.exec = Jvm.exec) (hb : c.code = cc) (hts : ∀ w ∈ lw_all, w.before args s = true) (hown : s.vm.findClass own = some m.cls) (hK : Hk G s) (hT2 : Ht s) (hW : Hw G A τ H) (hv : hg τ a cs k = some v) (hf : hfB cs k decl name desc fin = true) (hsame : ∀ x, s.fieldFound? decl name desc = some x → s.fieldFound? ref name desc = some x) (hlink : Cond.fieldLinkNest own index ref name desc host ∈ lw_tbl) (hdg : decode cc pc = .ok (.getfield index, 3))
    (kk : W p l e R s m args below meth c H locs cells slots Q (F0 m (pc + 3) ls (v :: rest))) : W p l e R s m args below meth c H locs cells slots Q (F0 m pc ls (.ref a :: rest)) := by
  obtain ⟨ci, fs, h1, hc, h2⟩ := hg_o hv
  obtain ⟨C, T, N, hcl, hk, hT⟩ := hfB_o hf hc
  obtain ⟨r, hr, cell, q1, q2, q3, q4⟩ := (hW.2 a _ h1).1
  cases hcl.symm.trans hr
  have hin := clw_in _ (List.mem_of_getElem? hcl)
  obtain ⟨hS, hfc, kC, hkC, hkind⟩ := hK.1 ci _ hcl
  obtain ⟨cf, kf, fi, f, hi, hsl⟩ := hS k hk
  have hst := (u_facts hfc hkC (u_lays hts hin hk) hi).1
  simp only [hT] at hi
  refine va_Wgetf hx hb hown (va_Nw.use rfl (hT2.1 _ (hw_of hlink rfl))) (hsame _ hi) hst q1 (by rw [q3]; exact fun h => by cases h) (v := v) ?_ rfl rfl hdg kk
  rw [hsl, q4 k hk]
  simp [vp_V, h2]
theorem h_apart {r : vw_C} {ci : Nat} (hr : clw[ci]? = some r) (hts : ∀ w ∈ lw_all, w.before args s = true) (hK : Hk G s) : ∀ x y, x < r.2.2 → y < r.2.2 → x ≠ y → (G.1.2 ci) x ≠ (G.1.2 ci) y := by
  have hm := List.mem_of_getElem? hr
  obtain ⟨ty, hty⟩ := clw_ty r hm
  exact va_apart (C := r.1) (T := r.2.1) (N := r.2.2) (own := r.1) hts (clw_in r hm) ty hty (clw_nm r hm) hK hr
theorem hr_put {own ref decl name desc : String} {cs : List Nat} {k a index : Nat} {v : Value} {ty : FieldType} (hx : p.tables.exec = Jvm.exec) (hb : c.code = cc) (hts : ∀ w ∈ lw_all, w.before args s = true) (hown : s.vm.findClass own = some m.cls) (hK : Hk G s) (hW : Hw G A τ H) (hS0 : va_S A H0 H locs) (hv : hp τ a cs k v = some τ1) (hf : hfB cs k decl name desc false = true) (hd : parseFieldDescriptor desc = some ty) (hn : narrow ty v = v) (hfit : fits ty v = true) (hsame : ∀ x, s.fieldFound? decl name desc = some x → s.fieldFound? ref name desc = some x) (hlink : Cond.fieldLink own index ref name desc ∈ lw_all) (hdg : decode cc pc = .ok (.putfield index, 3))
    (kk : ∀ (H1 : Heap) (locs1 : List Loc), Hw G A τ1 H1 → va_S A H0 H1 locs1 → W p l e R s m args below meth c H1 locs1 cells slots Q (F0 m (pc + 3) ls rest)) : W p l e R s m args below meth c H locs cells slots Q (F0 m pc ls (v :: .ref a :: rest)) := by
  obtain ⟨ci, fs, h1, hc, hne, hl, rfl⟩ := hp_o hv
  obtain ⟨C, T, N, hcl, hk, hT⟩ := hfB_o hf hc
  have hap := h_apart hcl hts hK
  obtain ⟨r, hr, cell, q1, q2, q3, q4⟩ := (hW.2 a _ h1).1
  cases hcl.symm.trans hr
  have hin := clw_in _ (List.mem_of_getElem? hcl)
  obtain ⟨hS, hfc, kC, hkC, hkind⟩ := hK.1 ci _ hcl
  obtain ⟨cf, kf, fi, f, hi, hsl⟩ := hS k hk
  have hlay := hts _ (hin _ (u_in_lay hk))
  unfold u_lay at hlay
  simp only [hT, Bool.false_eq_true, if_false] at hlay
  have hst := (u_facts hfc hkC (u_lays hts hin hk) hi).1
  simp only [hT] at hi
  have h6 := u_store hfc hkC hkind hlay hi hd hn hfit
  refine W.putK hx hb (f := f) ⟨hown, hts _ hlink, ⟨_, _, _, hsame _ hi⟩, hst⟩ (by rw [q2]; exact h6) q1 q3 (by rw [hsl]; exact k2_hasslot (q4 k hk)) rfl rfl hdg fun H' e1 e2 e3 => ?_
  rw [hsl] at e1 ⊢
  exact kk H' _ (hW.put h1 (decide_eq_true hne) ⟨_, hcl, t_OB.to (V := updV (vp_V fs) k v) ⟨_, e1, q2, q3, t_set q4 hap hk v⟩ (fun j _ => vp_updV_set hl v j)⟩ e2 e3) (hS0.put e2 e3 ((hW.2 a _ h1).2 (decide_eq_true hne)))
theorem hr_putN {own ref decl name desc host : String} {cs : List Nat} {k a index : Nat} {v : Value} {ty : FieldType} (hx : p.tables.exec = Jvm.exec) (hb : c.code = cc) (hts : ∀ w ∈ lw_all, w.before args s = true) (hown : s.vm.findClass own = some m.cls) (hK : Hk G s) (hT2 : Ht s) (hW : Hw G A τ H) (hS0 : va_S A H0 H locs) (hv : hp τ a cs k v = some τ1) (hf : hfB cs k decl name desc false = true) (hd : parseFieldDescriptor desc = some ty) (hn : narrow ty v = v) (hfit : fits ty v = true) (hsame : ∀ x, s.fieldFound? decl name desc = some x → s.fieldFound? ref name desc = some x) (hlink : Cond.fieldLinkNest own index ref name desc host ∈ lw_tbl) (hdg : decode cc pc = .ok (.putfield index, 3))
    (kk : ∀ (H1 : Heap) (locs1 : List Loc), Hw G A τ1 H1 → va_S A H0 H1 locs1 → W p l e R s m args below meth c H1 locs1 cells slots Q (F0 m (pc + 3) ls rest)) : W p l e R s m args below meth c H locs cells slots Q (F0 m pc ls (v :: .ref a :: rest)) := by
  obtain ⟨ci, fs, h1, hc, hne, hl, rfl⟩ := hp_o hv
  obtain ⟨C, T, N, hcl, hk, hT⟩ := hfB_o hf hc
  have hap := h_apart hcl hts hK
  obtain ⟨r, hr, cell, q1, q2, q3, q4⟩ := (hW.2 a _ h1).1
  cases hcl.symm.trans hr
  have hin := clw_in _ (List.mem_of_getElem? hcl)
  obtain ⟨hS, hfc, kC, hkC, hkind⟩ := hK.1 ci _ hcl
  obtain ⟨cf, kf, fi, f, hi, hsl⟩ := hS k hk
  have hlay := hts _ (hin _ (u_in_lay hk))
  unfold u_lay at hlay
  simp only [hT, Bool.false_eq_true, if_false] at hlay
  have hst := (u_facts hfc hkC (u_lays hts hin hk) hi).1
  simp only [hT] at hi
  have h6 := u_store hfc hkC hkind hlay hi hd hn hfit
  refine va_WputK hx hb (f := f) hown (va_Nw.use rfl (hT2.1 _ (hw_of hlink rfl))) (hsame _ hi) hst (by rw [q2]; exact h6) q1 q3 (by rw [hsl]; exact k2_hasslot (q4 k hk)) rfl rfl hdg fun H' e1 e2 e3 => ?_
  rw [hsl] at e1 ⊢
  exact kk H' _ (hW.put h1 (decide_eq_true hne) ⟨_, hcl, t_OB.to (V := updV (vp_V fs) k v) ⟨_, e1, q2, q3, t_set q4 hap hk v⟩ (fun j _ => vp_updV_set hl v j)⟩ e2 e3) (hS0.put e2 e3 ((hW.2 a _ h1).2 (decide_eq_true hne)))
/-- a final field, in its class's constructor -/
theorem hr_putF {own name desc : String} {cs : List Nat} {k a index : Nat} {v : Value} {ty : FieldType} (hx : p.tables.exec = Jvm.exec) (hb : c.code = cc) (hts : ∀ w ∈ lw_all, w.before args s = true) (hown : s.vm.findClass own = some m.cls) (hK : Hk G s) (hin2 : meth.name = "<init>") (hW : Hw G A τ H) (hS0 : va_S A H0 H locs) (hv : hp τ a cs k v = some τ1) (hf : hfB cs k own name desc true = true) (hd : parseFieldDescriptor desc = some ty) (hn : narrow ty v = v) (hfit : fits ty v = true) (hlink : Cond.fieldLink own index own name desc ∈ lw_all) (hdg : decode cc pc = .ok (.putfield index, 3))
    (kk : ∀ (H1 : Heap) (locs1 : List Loc), Hw G A τ1 H1 → va_S A H0 H1 locs1 → W p l e R s m args below meth c H1 locs1 cells slots Q (F0 m (pc + 3) ls rest)) : W p l e R s m args below meth c H locs cells slots Q (F0 m pc ls (v :: .ref a :: rest)) := by
  obtain ⟨ci, fs, h1, hc, hne, hl, rfl⟩ := hp_o hv
  obtain ⟨C, T, N, hcl, hk, hT⟩ := hfB_o hf hc
  have hap := h_apart hcl hts hK
  obtain ⟨r, hr, cell, q1, q2, q3, q4⟩ := (hW.2 a _ h1).1
  cases hcl.symm.trans hr
  have hin := clw_in _ (List.mem_of_getElem? hcl)
  obtain ⟨hS, hfc, kC, hkC, hkind⟩ := hK.1 ci _ hcl
  obtain ⟨cf, kf, fi, f, hi, hsl⟩ := hS k hk
  have hlay := hts _ (hin _ (u_in_lay hk))
  unfold u_lay at hlay
  simp only [hT, if_true] at hlay
  have hst := (u_facts hfc hkC (u_lays hts hin hk) hi).1
  have hlay2 := u_lays hts hin hk
  simp only [hT] at hi hlay2
  have hcf : m.cls = cf := by
    obtain ⟨_, _, c', _, _, _, -, -, hf', -, -, -, hown2, -⟩ := Cond.laysFinal_spec hlay
    have e1 : c' = cf := by have := hi.symm.trans hf'; simp at this; exact this.1.symm
    rw [← e1]; exact Option.some.inj (hown.symm.trans hown2)
  have h6 := u_fits hfc hkC hkind hlay2 hi hd hn hfit
  refine W.putFinK hx hb hown (hts _ hlink) hi hst hcf hin2 (by rw [q2]; exact h6) q1 q3 (by rw [hsl]; exact k2_hasslot (q4 k hk)) rfl rfl hdg fun H' e1 e2 e3 => ?_
  rw [hsl] at e1 ⊢
  exact kk H' _ (hW.put h1 (decide_eq_true hne) ⟨_, hcl, t_OB.to (V := updV (vp_V fs) k v) ⟨_, e1, q2, q3, t_set q4 hap hk v⟩ (fun j _ => vp_updV_set hl v j)⟩ e2 e3) (hS0.put e2 e3 ((hW.2 a _ h1).2 (decide_eq_true hne)))
theorem hr_iald {a : Nat} {z : Nat × (Nat → Int32)} {i : Int32} (hx : p.tables.exec = Jvm.exec) (hb : c.code = cc) (hK : Hk G s) (hW : Hw G A τ H) (hz : haI τ a 0 = some z) (hin : vp_in i z.1) (hdg : decode cc pc = .ok (.iaload, 1))
    (kk : W p l e R s m args below meth c H locs cells slots Q (F0 m (pc + 1) ls (.int (z.2 i.toNatClampNeg) :: rest))) : W p l e R s m args below meth c H locs cells slots Q (F0 m pc ls (.int i :: .ref a :: rest)) := by
  have hlt : i.toNatClampNeg < z.1 := vp_lt hin
  exact W.iald (v := .int (z.2 i.toNatClampNeg)) hx hb (hW.2 a _ (haI_o hz)).1 ((hK.2 0 _ rfl).1 z.1 (fun j => .int (z.2 j))) (fun q => by cases q) (by show ¬ (i < 0 ∨ (arrV _ _ _).slots.size ≤ _); rw [arrV_size]; exact hin) (by show (arrV _ _ _).slots[_]? = _; rw [arrV_read _ _ hlt]) rfl rfl hdg kk
theorem hr_bald {a t : Nat} {z : Nat × (Nat → Int32)} {i : Int32} (hx : p.tables.exec = Jvm.exec) (hb : c.code = cc) (hK : Hk G s) (hW : Hw G A τ H) (hz : haI τ a t = some z) (ht : (hTy G)[t]? = some (G.2.1 t, .byte)) (hin : vp_in i z.1) (hdg : decode cc pc = .ok (.baload, 1))
    (kk : W p l e R s m args below meth c H locs cells slots Q (F0 m (pc + 1) ls (.int (z.2 i.toNatClampNeg) :: rest))) : W p l e R s m args below meth c H locs cells slots Q (F0 m pc ls (.int i :: .ref a :: rest)) := by
  have hlt : i.toNatClampNeg < z.1 := vp_lt hin
  exact W.bald (v := .int (z.2 i.toNatClampNeg)) hx hb (hW.2 a _ (haI_o hz)).1 ((hK.2 t _ ht).1 z.1 (fun j => .int (z.2 j))) (fun q => by cases q) (by show ¬ (i < 0 ∨ (arrV _ _ _).slots.size ≤ _); rw [arrV_size]; exact hin) (by show (arrV _ _ _).slots[_]? = _; rw [arrV_read _ _ hlt]) rfl rfl hdg kk
theorem hr_aald {a t : Nat} {C : String} {z : Nat × (Nat → Option Nat)} {i : Int32} (hx : p.tables.exec = Jvm.exec) (hb : c.code = cc) (hK : Hk G s) (hW : Hw G A τ H) (hz : haR τ a t = some z) (ht : (hTy G)[t]? = some (G.2.1 t, .object C)) (hin : vp_in i z.1) (hdg : decode cc pc = .ok (.aaload, 1))
    (kk : W p l e R s m args below meth c H locs cells slots Q (F0 m (pc + 1) ls (va_rf (z.2 i.toNatClampNeg) :: rest))) : W p l e R s m args below meth c H locs cells slots Q (F0 m pc ls (.int i :: .ref a :: rest)) := by
  have hlt : i.toNatClampNeg < z.1 := vp_lt hin
  exact W.aald (v := va_rf (z.2 i.toNatClampNeg)) (ty := .object C) hx hb (hW.2 a _ (haR_o hz)).1 ((hK.2 t _ ht).1 z.1 (fun j => va_rf (z.2 j))) rfl (fun q => by cases q) (by show ¬ (i < 0 ∨ (arrV _ _ _).slots.size ≤ _); rw [arrV_size]; exact hin) (by show (arrV _ _ _).slots[_]? = _; rw [arrV_read _ _ hlt]) rfl rfl hdg kk
theorem hr_iast {a : Nat} {z : Nat × (Nat → Int32)} {i v : Int32} (hx : p.tables.exec = Jvm.exec) (hb : c.code = cc) (hK : Hk G s) (hW : Hw G A τ H) (hS0 : va_S A H0 H locs) (hz : haI τ a 0 = some z) (hin : vp_in i z.1) (hσ : τ1 = hst τ a (.inl (0, z.1, .inl (upd z.2 i.toNatClampNeg v)))) (hdg : decode cc pc = .ok (.iastore, 1))
    (kk : ∀ (H1 : Heap) (locs1 : List Loc), Hw G A τ1 H1 → va_S A H0 H1 locs1 → W p l e R s m args below meth c H1 locs1 cells slots Q (F0 m (pc + 1) ls rest)) : W p l e R s m args below meth c H locs cells slots Q (F0 m pc ls (.int v :: .int i :: .ref a :: rest)) := by
  subst hσ
  refine W.iast hx hb (hW.2 a _ (haI_o hz)).1 ((hK.2 0 _ rfl).1 z.1 (fun j => .int (z.2 j))) (fun q => by cases q) (by show ¬ (i < 0 ∨ (arrV _ _ _).slots.size ≤ _); rw [arrV_size]; exact hin) rfl rfl hdg fun H1 e1 e2 oq => ?_
  exact kk H1 _ (hW.put (haI_o hz) rfl (by show H1[a]? = some (vp_cell _ (z.1, .inl _)); rw [e1]; exact congrArg some m_stored) e2 oq) (hS0.put e2 oq ((hW.2 a _ (haI_o hz)).2 rfl))
theorem h_storedB {cA : ClassId} {n i : Nat} {f : Nat → Int32} {v : Int32} : (vp_cell cA (n, .inl f)).setSlot i (narrow .byte (.int v)) = vp_cell cA (n, .inl (upd f i (vp_nar .byte v))) := m_stored
theorem hr_bast {a : Nat} {z : Nat × (Nat → Int32)} {i v : Int32} (hx : p.tables.exec = Jvm.exec) (hb : c.code = cc) (hK : Hk G s) (hW : Hw G A τ H) (hS0 : va_S A H0 H locs) (hz : haI τ a 1 = some z) (hin : vp_in i z.1) (hσ : τ1 = hst τ a (.inl (1, z.1, .inl (upd z.2 i.toNatClampNeg v.toInt8.toInt32)))) (hdg : decode cc pc = .ok (.bastore, 1))
    (kk : ∀ (H1 : Heap) (locs1 : List Loc), Hw G A τ1 H1 → va_S A H0 H1 locs1 → W p l e R s m args below meth c H1 locs1 cells slots Q (F0 m (pc + 1) ls rest)) : W p l e R s m args below meth c H locs cells slots Q (F0 m pc ls (.int v :: .int i :: .ref a :: rest)) := by
  subst hσ
  refine W.bast hx hb (hW.2 a _ (haI_o hz)).1 ((hK.2 1 _ rfl).1 z.1 (fun j => .int (z.2 j))) (fun q => by cases q) (by show ¬ (i < 0 ∨ (arrV _ _ _).slots.size ≤ _); rw [arrV_size]; exact hin) rfl rfl hdg fun H1 e1 e2 oq => ?_
  exact kk H1 _ (hW.put (haI_o hz) rfl (by show H1[a]? = some (vp_cell _ (z.1, .inl _)); rw [e1]; exact congrArg some m_stored) e2 oq) (hS0.put e2 oq ((hW.2 a _ (haI_o hz)).2 rfl))
theorem hr_alen {a t n : Nat} {ty : FieldType} {v : Int32} (hx : p.tables.exec = Jvm.exec) (hb : c.code = cc) (hK : Hk G s) (hW : Hw G A τ H) (hz : hln τ a t = some n) (ht : (hTy G)[t]? = some (G.2.1 t, ty)) (hv : Int32.ofNat n = v) (hdg : decode cc pc = .ok (.arraylength, 1))
    (kk : W p l e R s m args below meth c H locs cells slots Q (F0 m (pc + 1) ls (.int v :: rest))) : W p l e R s m args below meth c H locs cells slots Q (F0 m pc ls (.ref a :: rest)) := by
  obtain ⟨f, h1⟩ := hln_o hz
  exact va_alen (D := G.1) (cl := clw) (ws := [(a, .inl (G.2.1 t, n, f))]) (tys := hTy G) hx hb hK (fun k q hq => by
    have hz : k < 1 := (List.getElem?_eq_some_iff.mp hq).1
    rw [show k = 0 by omega] at hq
    cases hq
    exact (hW.2 a _ h1).1) 0 t rfl ht hv hdg kk
theorem hr_new {own C : String} {T : u_T} {N ci index : Nat} {fs : List Value} (hx : p.tables.exec = Jvm.exec) (hb : c.code = cc) (hts : ∀ w ∈ lw_all, w.before args s = true) (hown : s.vm.findClass own = some m.cls) (hK : Hk G s) (hW : Hw G A τ H) (hS : va_S A H0 H locs) (hA : ∀ q, H0.size ≤ q → A q) (hc : clw[ci]? = some (C, T, N)) (ty : Nat → FieldType) (hty : ∀ k, k < N → parseFieldDescriptor (T k).2.2.1 = some (ty k)) (hfs : (List.range N).all (fun j => decide (defaultValue (ty j) = vp_V fs j)) = true) (hcl : Cond.classLink own index C ∈ lw_all) (hinst : Cond.instantiable C N ∈ lw_all) (hini : Cond.initialized C ∈ lw_all) (hσ : τ1 = hnew τ (.inr (ci, fs))) (hcells : cells + 1 ≤ R.cells) (hslots : slots + N ≤ R.slots) (hdg : decode cc pc = .ok (.new index, 3))
    (kk : ∀ H1 : Heap, Hw G A τ1 H1 → va_S A H0 H1 locs → W p l e R s m args below meth c H1 locs (cells + 1) (slots + N) Q (F0 m (pc + 3) ls (.ref τ.2 :: rest))) : W p l e R s m args below meth c H locs cells slots Q (F0 m pc ls rest) := by
  subst hσ
  have hin := clw_in _ (List.mem_of_getElem? hc)
  have hKn := hK.1 ci _ hc
  refine W.newcK hx hb hown (hts _ hcl) (hts _ hinst) (hts _ hini) rfl hdg hcells hslots hKn.2.1 rfl fun H1 kC hkC e1 z1 o1 => ?_
  have hz := hW.1
  rw [← hz]
  have hfs' : ∀ j, j < N → defaultValue (ty j) = vp_V fs j := fun j hj => of_decide_eq_true (List.all_eq_true.mp hfs j (List.mem_range.mpr hj))
  refine kk H1 (hW.made ⟨_, hc, (u_born ty hts hin hKn hkC e1 hty).to hfs'⟩ z1 o1 (hA _ hS.1)) ⟨Nat.le_trans hS.1 (by omega), fun x h1 h2 => (o1 x (Nat.lt_of_lt_of_le h1 hS.1)).trans (hS.2.1 x h1 h2), hS.2.2⟩
theorem hr_newI {n : Int32} {N : Nat} (hx : p.tables.exec = Jvm.exec) (hb : c.code = cc) (hts : ∀ w ∈ lw_all, w.before args s = true) (hK : Hk G s) (hW : Hw G A τ H) (hS : va_S A H0 H locs) (hA : ∀ q, H0.size ≤ q → A q) (hn : ¬ n < 0) (hN : n.toNatClampNeg = N) (hbytes : N ≤ 100000) (hσ : τ1 = hnew τ (.inl (0, N, .inl (fun _ => 0)))) (hcells : cells + 1 ≤ R.cells) (hslots : slots + N ≤ R.slots) (hdg : decode cc pc = .ok (.newarray .int, 2))
    (kk : ∀ H1 : Heap, Hw G A τ1 H1 → va_S A H0 H1 locs → W p l e R s m args below meth c H1 locs (cells + 1) (slots + N) Q (F0 m (pc + 2) ls (.ref τ.2 :: rest))) : W p l e R s m args below meth c H locs cells slots Q (F0 m pc ls (.int n :: rest)) := by
  subst hσ
  refine va_newaK hx hb (atype := .int) (hts _ q162) rfl hdg rfl hn hN (by show N * 4 ≤ 536870912; omega) hcells hslots rfl fun H1 cA e1 z1 o1 hAr hNm => ?_
  have hz := hW.1
  have hcA : cA = G.2.1 0 := Option.some.inj (hNm.symm.trans (hK.2 0 _ rfl).2)
  subst hcA
  rw [← hz]
  refine kk H1 (hW.made (by show H1[H.size]? = some (vp_cell _ (N, .inl (fun _ => 0))); exact e1) z1 o1 (hA _ hS.1)) ⟨Nat.le_trans hS.1 (by omega), fun x h1 h2 => (o1 x (Nat.lt_of_lt_of_le h1 hS.1)).trans (hS.2.1 x h1 h2), hS.2.2⟩
theorem hr_newB {n : Int32} {N : Nat} (hx : p.tables.exec = Jvm.exec) (hb : c.code = cc) (hts : ∀ w ∈ lw_all, w.before args s = true) (hK : Hk G s) (hW : Hw G A τ H) (hS : va_S A H0 H locs) (hA : ∀ q, H0.size ≤ q → A q) (hn : ¬ n < 0) (hN : n.toNatClampNeg = N) (hbytes : N ≤ 100000) (hσ : τ1 = hnew τ (.inl (1, N, .inl (fun _ => 0)))) (hcells : cells + 1 ≤ R.cells) (hslots : slots + N ≤ R.slots) (hdg : decode cc pc = .ok (.newarray .byte, 2))
    (kk : ∀ H1 : Heap, Hw G A τ1 H1 → va_S A H0 H1 locs → W p l e R s m args below meth c H1 locs (cells + 1) (slots + N) Q (F0 m (pc + 2) ls (.ref τ.2 :: rest))) : W p l e R s m args below meth c H locs cells slots Q (F0 m pc ls (.int n :: rest)) := by
  subst hσ
  refine va_newaK hx hb (atype := .byte) (hts _ q259) rfl hdg rfl hn hN (by show N * 1 ≤ 536870912; omega) hcells hslots rfl fun H1 cA e1 z1 o1 hAr hNm => ?_
  have hz := hW.1
  have hcA : cA = G.2.1 1 := Option.some.inj (hNm.symm.trans (hK.2 1 _ rfl).2)
  subst hcA
  rw [← hz]
  refine kk H1 (hW.made (by show H1[H.size]? = some (vp_cell _ (N, .inl (fun _ => 0))); exact e1) z1 o1 (hA _ hS.1)) ⟨Nat.le_trans hS.1 (by omega), fun x h1 h2 => (o1 x (Nat.lt_of_lt_of_le h1 hS.1)).trans (hS.2.1 x h1 h2), hS.2.2⟩
theorem hr_newR {own C : String} {index t : Nat} {n : Int32} {N : Nat} (hx : p.tables.exec = Jvm.exec) (hb : c.code = cc) (hts : ∀ w ∈ lw_all, w.before args s = true) (hown : s.vm.findClass own = some m.cls) (hK : Hk G s) (hover : va_AO C s) (hW : Hw G A τ H) (hS : va_S A H0 H locs) (hA : ∀ q, H0.size ≤ q → A q) (ht : (hTy G)[t]? = some (G.2.1 t, .object C)) (hclink : Cond.classLink own index C ∈ lw_all) (hn : ¬ n < 0) (hN : n.toNatClampNeg = N) (hbytes : N ≤ 100000) (hσ : τ1 = hnew τ (.inl (t, N, .inr (.inr (.inr (.inr (fun _ => none))))))) (hcells : cells + 1 ≤ R.cells) (hslots : slots + N ≤ R.slots) (hdg : decode cc pc = .ok (.anewarray index, 3))
    (kk : ∀ H1 : Heap, Hw G A τ1 H1 → va_S A H0 H1 locs → W p l e R s m args below meth c H1 locs (cells + 1) (slots + N) Q (F0 m (pc + 3) ls (.ref τ.2 :: rest))) : W p l e R s m args below meth c H locs cells slots Q (F0 m pc ls (.int n :: rest)) := by
  subst hσ hN
  have hz := hW.1
  refine W.anew hx hb hown (hts _ hclink) (va_AO.use hover) rfl hdg rfl hn (by omega) hcells hslots fun cA kA comp f1 f2 f3 f4 => ?_
  have hcA : cA = G.2.1 t := by
    obtain ⟨kA', comp', -, -, -, h4⟩ := (hK.2 t _ ht).2
    exact Option.some.inj (f1.symm.trans h4)
  subst hcA
  generalize hH1 : H.push ({ cls := G.2.1 t, slots := Array.replicate n.toNatClampNeg .null, vm := .none } : Cell) = H1
  have z1 : H1.size = H.size + 1 := by rw [← hH1, Array.size_push]
  have e1 : H1[H.size]? = some (arrV (G.2.1 t) n.toNatClampNeg (fun _ => .null)) := by rw [← hH1, Array.getElem?_push_size, ← arrV_new]
  have o1 : ∀ q : Nat, q < H.size → H1[q]? = H[q]? := fun q hq => by rw [← hH1, Array.getElem?_push, if_neg (Nat.ne_of_lt hq)]
  show W p l e R s m args below meth c H1 locs (cells + 1) (slots + n.toNatClampNeg) Q (F0 m (pc + 3) ls (.ref H.size :: rest))
  rw [← hz]
  refine kk H1 (hW.made (by show H1[H.size]? = some (vp_cell _ _); rw [vp_cell_q]; exact e1) z1 o1 (hA _ hS.1)) ⟨Nat.le_trans hS.1 (by omega), fun x h1 h2 => (o1 x (Nat.lt_of_lt_of_le h1 hS.1)).trans (hS.2.1 x h1 h2), hS.2.2⟩
theorem hr_recv {a ci : Nat} {r : vw_C} {fs : List Value} (hK : Hk G s) (hW : Hw G A τ H) (h : τ.1 a = some (.inr (ci, fs))) (hr : clw[ci]? = some r) : ∃ cell : Cell, H[a]? = some cell ∧ cell.vm.isStatics = false ∧ s.vm.findClass r.1 = some cell.cls := by
  obtain ⟨r', h1, cell, q1, q2, q3, -⟩ := (hW.2 a _ h).1
  exact ⟨cell, q1, by rw [q3]; rfl, by rw [q2]; exact (hK.1 ci _ hr).2.1⟩
/-- an object into an array of references whose elements' class is C: the object's class is C or castable to it -/
theorem hr_aast {a t b : Nat} {C : String} {z : Nat × (Nat → Option Nat)} {i : Int32} {ci : Nat} {rC : vw_C} {fs : List Value} (hx : p.tables.exec = Jvm.exec) (hb : c.code = cc) (hK : Hk G s) (hW : Hw G A τ H) (hS0 : va_S A H0 H locs) (hz : haR τ a t = some z) (ht : (hTy G)[t]? = some (G.2.1 t, .object C)) (ht5 : t ≠ 5) (hin : vp_in i z.1) (hbv : τ.1 b = some (.inr (ci, fs))) (hr : clw[ci]? = some rC) (hcast : rC.1 = C ∨ va_Nw (.castable rC.1 C) s) (hσ : τ1 = hst τ a (.inl (t, z.1, .inr (.inr (.inr (.inr (va_up z.2 i.toNatClampNeg (some b)))))))) (hdg : decode cc pc = .ok (.aastore, 1))
    (kk : ∀ (H1 : Heap) (locs1 : List Loc), Hw G A τ1 H1 → va_S A H0 H1 locs1 → W p l e R s m args below meth c H1 locs1 cells slots Q (F0 m (pc + 1) ls rest)) : W p l e R s m args below meth c H locs cells slots Q (F0 m pc ls (.ref b :: .int i :: .ref a :: rest)) := by
  subst hσ
  have hlt : i.toNatClampNeg < z.1 := vp_lt hin
  have h0 : ¬ i < 0 := fun q => hin (Or.inl q)
  obtain ⟨r', hr', cellV, g1, g2, g3, -⟩ := (hW.2 b _ hbv).1
  cases hr.symm.trans hr'
  have hcls := (hK.1 ci _ hr).2
  obtain ⟨kA, comp, k1, k2, k3, -⟩ := (hK.2 t _ ht).2
  obtain ⟨kC, hkC, -⟩ := hcls.2
  have hasg : s.vm.assignable (G.1.1 ci) comp = true ∧ ∃ kc, s.vm.classes[comp]? = some kc := by
    rcases hcast with e | hc
    · subst e
      cases k3.symm.trans hcls.1
      exact ⟨va_assign hcls, kC, hkC⟩
    · obtain ⟨c0, t0, f1, f2, f3⟩ := Cond.castable_spec (va_Nw.use (A := args) rfl hc)
      cases f1.symm.trans hcls.1
      cases k3.symm.trans f2
      obtain ⟨kE, hkE, -⟩ := Vm.findClass_spec k3
      exact ⟨f3, kE, hkE⟩
  obtain ⟨hasg, kc, hkc⟩ := hasg
  refine W.aast hx hb (hW.2 a _ (haR_o hz)).1 (fun q h => by cases h) (fun h => by cases h) k1 k2 rfl hkc ⟨h0, by show _ < (arrV _ _ _).slots.size; rw [arrV_size]; exact hlt⟩ g1 (fun q h => by rw [g3] at h; cases h) (by rw [g2]; exact hkC) (by rw [g2]; exact hasg) rfl rfl hdg fun H1 e1 e2 oq => ?_
  refine kk H1 _ (hW.put (haR_o hz) (decide_eq_true ht5) ?_ e2 oq) (hS0.put e2 oq ((hW.2 a _ (haR_o hz)).2 (decide_eq_true ht5)))
  show H1[a]? = some (vp_cell _ _)
  rw [e1]
  rw [vp_cell_q, vp_cell_q, arrV_store]
  congr 2
  funext q
  by_cases hq : q = i.toNatClampNeg
  · subst hq
    simp [updV, va_up, va_rf]
  · simp [updV, va_up, hq]
theorem lv_rfe {x : Option Nat} {y : Nat} (h : x = some y) (k : W p l e R s m args below meth c H locs cells slots Q (F0 m pc ls (.ref y :: rest))) : W p l e R s m args below meth c H locs cells slots Q (F0 m pc ls (va_rf x :: rest)) := by
  subst h
  exact k
end HR
/-! what holds of a state beside its abstract heap: the classes, the tables' words, the statics that are read, new cells are its own -/
def Hz (A : Nat → Prop) (U : State) (H : Heap) : Prop := va_Z "java/lang/String" "COMPACT_STRINGS" "Z" (.int 1) A U H ∧ vx_Zq Bundle.tN "UNASSIGNED_STACK" Bundle.steD A U H ∧ vx_Zq Bundle.tN "SUPPRESSED_SENTINEL" Bundle.listD A U H
theorem Hz.moved {A : Nat → Prop} {u U : State} {H : Heap} (hvm : u.vm.Alike U.vm) (h : Hz A u H) : Hz A U H := ⟨h.1.moved hvm, h.2.1.moved hvm, h.2.2.moved hvm⟩
theorem Hz.kept {A : Nat → Prop} {U : State} {H H1 : Heap} (h : Hz A U H) (hq : ∀ a : Nat, a < H.size → ¬ A a → H1[a]? = H[a]?) : Hz A U H1 := ⟨h.1.kept hq, h.2.1.kept hq, h.2.2.kept hq⟩
/-- the String constants of the reader: place in the table, text -/
def Hl (G : HG) (U : State) : Prop := ∀ q ∈ [((88 : Nat), "shed"), (90, "hold"), (92, "wash"), (94, "pass"), (96, "take"), (98, "alike"), (100, "common"), (153, "wear"), (155, "bare"), (157, "touch"), (159, "shake"), (132, "at")], vk_R "WoolThreads$Reader" q.1 q.2 (G.2.2 q.1) U
theorem Hl.warm {G : HG} {s U : State} (hW : s.WarmedH U.vm) (h : Hl G s) : Hl G U := fun q hq => (h q hq).warm hW
theorem Hl.same {G : HG} {s U : State} (hvm : s.vm = U.vm) (h : Hl G s) : Hl G U := fun q hq => (h q hq).same hvm.symm
/-- the class object of Object[] (at the constants' place 0); what isn't a Touch -/
def Hm (G : HG) (U : State) : Prop := va_Mi "[Ljava/lang/Object;" (G.2.2 0) U ∧ va_Nc "WoolThreads$Wear" "WoolThreads$Touch" U ∧ va_Nc "WoolThreads$Stay" "WoolThreads$Touch" U ∧ va_Nc "java/lang/IllegalArgumentException" "java/util/NoSuchElementException" U ∧ va_Nc "java/lang/IllegalArgumentException" "java/lang/IndexOutOfBoundsException" U ∧ va_Nc "java/lang/IndexOutOfBoundsException" "java/util/NoSuchElementException" U
theorem Hm.moved {G : HG} {u U : State} (hvm : u.vm.Alike U.vm) (h : Hm G u) : Hm G U := ⟨h.1.moved hvm, h.2.1.moved hvm, h.2.2.1.moved hvm, h.2.2.2.1.moved hvm, h.2.2.2.2.1.moved hvm, h.2.2.2.2.2.moved hvm⟩
def Hcx (G : HG) (A : Nat → Prop) (U : State) : Prop := Hk G U ∧ Ht U ∧ Hl G U ∧ Hm G U ∧ Hz A U U.heap ∧ ∀ q : Nat, U.heap.size ≤ q → A q
theorem Hcx.blind {G : HG} {A : Nat → Prop} {U V : State} (hvm : U.vm = V.vm) (hh : V.heap = U.heap) (h : Hcx G A U) : Hcx G A V := by
  have ha : U.vm.Alike V.vm := by rw [hvm]; exact Vm.Alike.refl _
  exact ⟨h.1.moved ha, h.2.1.same hvm, h.2.2.1.same hvm, h.2.2.2.1.moved ha, by rw [hh]; exact h.2.2.2.2.1.moved ha, by rw [hh]; exact h.2.2.2.2.2⟩
/-- at a callee's start -/
theorem Hcx.call {G : HG} {A : Nat → Prop} {s U : State} {H : Heap} {locs : List Loc} (hW : s.WarmedH U.vm) (hU : U.heap = H) (hS : va_S A s.heap H locs) (h : Hcx G A s) : Hcx G A U :=
  ⟨h.1.moved hW.alike, h.2.1.warm hW, h.2.2.1.warm hW, h.2.2.2.1.moved hW.alike, by rw [hU]; exact (h.2.2.2.2.1.kept hS.2.1).moved hW.alike, fun q hq => h.2.2.2.2.2 q (by rw [hU] at hq; exact Nat.le_trans hS.1 hq)⟩
def hPc (G : HG) (A : Nat → Prop) (τ : HP) (av : List Value) : Array Value → State → Prop := va_Pc av (fun U => Hw G A τ U.heap ∧ Hcx G A U)
theorem hPc_blind {G : HG} {A : Nat → Prop} {τ : HP} {av : List Value} : FrameBlind (hPc G A τ av) := fun a U g mk q => ⟨q.1, q.2.1, Hcx.blind (U := U) (V := U.calling g mk a) rfl rfl q.2.2⟩
def hQi (G : HG) (r : Int32) (τ : HP) (A : Nat → Prop) : Array Value → State → Outcome → State → Prop := va_Qi (fun (r' : Int32) (_ : Unit) => r' = r) (fun _ t => Hw G A τ t.heap) A
def hQv (G : HG) (τ : HP) (A : Nat → Prop) : Array Value → State → Outcome → State → Prop := va_Qv (fun (_ : Unit) => True) (fun _ t => Hw G A τ t.heap) A
def hQr (G : HG) (r : Nat) (τ : HP) (A : Nat → Prop) : Array Value → State → Outcome → State → Prop := va_Qr (fun (_ : Unit) => True) (fun _ ra t => ra = r ∧ Hw G A τ t.heap) A
theorem hr_preV {s : State} {H : Heap} {locs : List Loc} {G : HG} {A : Nat → Prop} {τ : HP} {As : List Value} {C : String} {b ci : Nat} {r : vw_C} (hC : Hcx G A s) (hW : Hw G A τ H) (hS : va_S A s.heap H locs) (h : hcl τ b = some ci) (hr : clw[ci]? = some r) (he : r.1 = C) : PreV s H C b (hPc G A τ (.ref b :: As)) As := by
  obtain ⟨fs, h1⟩ := hcl_o h
  exact ⟨hPc_blind, he ▸ hr_recv hC.1 hW h1 hr, fun U hU hW' => ⟨rfl, by rw [hU]; exact hW, hC.call hW' hU hS⟩⟩
theorem hr_preS {s : State} {H : Heap} {locs : List Loc} {G : HG} {A : Nat → Prop} {τ : HP} {As : List Value} (hC : Hcx G A s) (hW : Hw G A τ H) (hS : va_S A s.heap H locs) : PreS s H (hPc G A τ As) As := ⟨hPc_blind, fun U hU hW' => ⟨rfl, by rw [hU]; exact hW, hC.call hW' hU hS⟩⟩
section HE
variable {p : Program} {l : Launch} {e : Env} {R : Room} {s : State} {m : MethodId} {args : Array Value} {below : List Frame} {meth : Method} {c : Code} {H : Heap} {locs : List Loc} {cells slots mc ms : Nat} {Q : State → Prop}
variable {cc : ByteArray} {pc : Nat} {ls : Array Slot} {rest : List Value} {G : HG} {A : Nat → Prop} {τ τ1 : HP}
theorem hr_iret {v r : Int32} {ty : FieldType} (hx : p.tables.exec = Jvm.exec) (hb : c.code = cc) (hr : meth.sig.returnType = some ty) (hn : narrow ty (.int v) = .int v) (hlocks : meth.locks = false) (h1 : v = r) (h2 : τ = τ1) (hW : Hw G A τ H) (hS : va_S A s.heap H locs) (hdg : decode cc pc = .ok (.ireturn, 1)) (hc : cells ≤ mc) (hs : slots ≤ ms) :
    W p l e R s m args below meth c H locs cells slots (MQ below (hQi G r τ1 A) args s mc ms A) (F0 m pc ls [.int v]) := by
  subst h1 h2
  refine W.widen hc hs ?_
  exact W.zret hx hb hr hn (fun t ht hW' => ⟨⟨v, (), rfl, rfl, by show Hw G A τ t.heap; rw [ht]; exact hW⟩, hS.F ht⟩) hS.2.2 hdg hlocks
theorem hr_vret (hx : p.tables.exec = Jvm.exec) (hb : c.code = cc) (hr : meth.sig.returnType = none) (hlocks : meth.locks = false) (h2 : τ = τ1) (hW : Hw G A τ H) (hS : va_S A s.heap H locs) (hdg : decode cc pc = .ok (.return_, 1)) (hc : cells ≤ mc) (hs : slots ≤ ms) :
    W p l e R s m args below meth c H locs cells slots (MQ below (hQv G τ1 A) args s mc ms A) (F0 m pc ls []) := by
  subst h2
  refine W.widen hc hs ?_
  exact W.vret hx hb hr (fun t ht hW' => ⟨⟨(), rfl, trivial, by show Hw G A τ t.heap; rw [ht]; exact hW⟩, hS.F ht⟩) hS.2.2 hdg hlocks
theorem hr_aret {v r : Nat} {ty : FieldType} (hx : p.tables.exec = Jvm.exec) (hb : c.code = cc) (hr : meth.sig.returnType = some ty) (hn : (∃ n, ty = .object n) ∨ ∃ t, ty = .array t) (hlocks : meth.locks = false) (h1 : v = r) (h2 : τ = τ1) (hW : Hw G A τ H) (hS : va_S A s.heap H locs) (hdg : decode cc pc = .ok (.areturn, 1)) (hc : cells ≤ mc) (hs : slots ≤ ms) :
    W p l e R s m args below meth c H locs cells slots (MQ below (hQr G r τ1 A) args s mc ms A) (F0 m pc ls [.ref v]) := by
  subst h1 h2
  refine W.widen hc hs ?_
  exact W.aret hx hb hr hn (Or.inr ⟨v, rfl⟩) (fun t ht hW' => ⟨⟨(), v, rfl, trivial, rfl, by show Hw G A τ t.heap; rw [ht]; exact hW⟩, hS.F ht⟩) hS.2.2 hdg hlocks
end HE
