/-! The words of what a method computes (wt_); the model's world: one object, its arrays, its arrays of arrays; a row an instruction -/
set_option maxRecDepth 100000
def wt_bd {α β : Type} (x : Option α) (f : α → Option β) : Option β := match x with
  | none => none
  | some a => f a
theorem wt_bd_o {α β : Type} {x : Option α} {f : α → Option β} {b : β} (h : wt_bd x f = some b) : ∃ a, x = some a ∧ f a = some b := by
  cases x with
  | none => cases h
  | some a => exact ⟨a, rfl, h⟩
theorem wt_bd_s {α β : Type} {a : α} {f : α → Option β} : wt_bd (some a) f = f a := rfl
def wt_lt {α β : Type} (x : α) (f : α → β) : β := f x
theorem wt_lt_o {α β : Type} {x : α} {f : α → β} {b : β} (h : wt_lt x f = b) : ∃ a, a = x ∧ f a = b := ⟨x, rfl, h⟩
noncomputable def wt_ck {β : Type} (p : Prop) (x : Option β) : Option β := @ite _ p (Classical.propDecidable p) x none
theorem wt_ck_o {β : Type} {p : Prop} {x : Option β} {b : β} (h : wt_ck p x = some b) : p ∧ x = some b := by
  unfold wt_ck at h
  by_cases hp : p
  · rw [if_pos hp] at h; exact ⟨hp, h⟩
  · rw [if_neg hp] at h; cases h
theorem wt_ck_t {β : Type} {p : Prop} {x : Option β} (h : p) : wt_ck p x = x := by unfold wt_ck; exact if_pos h
def wt_rs {α τ β : Type} (w : α ⊕ τ) (f : α → β) (g : τ → β) : β := match w with
  | .inl a => f a
  | .inr t => g t
theorem wt_rs_l {α τ β : Type} {w : α ⊕ τ} {a : α} {f : α → β} {g : τ → β} {b : β} (hw : Sum.inl a = w) (h : wt_rs w f g = b) : f a = b := by subst hw; exact h
theorem wt_rs_r {α τ β : Type} {w : α ⊕ τ} {t : τ} {f : α → β} {g : τ → β} {b : β} (hw : Sum.inr t = w) (h : wt_rs w f g = b) : g t = b := by subst hw; exact h
theorem wt_it {α : Type} {c : Prop} {i : Decidable c} {a b r : α} (h : @ite α c i a b = r) (hc : c) : a = r := (if_pos hc).symm.trans h
theorem wt_if {α : Type} {c : Prop} {i : Decidable c} {a b r : α} (h : @ite α c i a b = r) (hc : ¬ c) : b = r := (if_neg hc).symm.trans h
def wt_wh {S E : Type} (F : S → Option (S ⊕ E)) : Nat → S → Option E
  | 0, _ => none
  | n + 1, v => match F v with
    | none => none
    | some (.inl v') => wt_wh F n v'
    | some (.inr e) => some e
def wt_ag {S E : Type} (F : S → Option (S ⊕ E)) (n : Nat) (r : S ⊕ E) : Option E := match r with
  | .inl v' => wt_wh F n v'
  | .inr e => some e
theorem wt_wh_z {S E : Type} {F : S → Option (S ⊕ E)} {v : S} {w : E} : ¬ wt_wh F 0 v = some w := by intro h; cases h
theorem wt_wh_o {S E : Type} {F : S → Option (S ⊕ E)} {n : Nat} {v : S} {w : E} (h : wt_wh F (n + 1) v = some w) : ∃ r, F v = some r ∧ wt_ag F n r = some w := by
  unfold wt_wh at h
  cases hF : F v with
  | none => rw [hF] at h; cases h
  | some r =>
    rw [hF] at h
    refine ⟨r, rfl, ?_⟩
    cases r with
    | inl v' => exact h
    | inr e => exact h
theorem wt_again {S E : Type} {F : S → Option (S ⊕ E)} {n : Nat} {v : S} {r : S ⊕ E} {w : E} (h : some (Sum.inl v) = some r) (hk : wt_ag F n r = some w) : wt_wh F n v = some w := by
  cases h
  exact hk
theorem wt_exit {S E : Type} {F : S → Option (S ⊕ E)} {n : Nat} {e : E} {r : S ⊕ E} {w : E} (h : some (Sum.inr e) = some r) (hk : wt_ag F n r = some w) : e = w := by
  cases h
  exact Option.some.inj hk
noncomputable def wt_whC {S E : Type} (F : S → Option (S ⊕ E)) (v : S) : Option E := @dite _ (∃ n, (wt_wh F n v).isSome = true) (Classical.propDecidable _) (fun h => wt_wh F (Classical.choose h) v) (fun _ => none)
theorem wt_whC_o {S E : Type} {F : S → Option (S ⊕ E)} {v : S} {w : E} (h : wt_whC F v = some w) : ∃ n, wt_wh F n v = some w := by
  unfold wt_whC at h
  split at h
  · exact ⟨_, h⟩
  · cases h
theorem wt_wh_up {S E : Type} {F : S → Option (S ⊕ E)} : ∀ (n k : Nat) (v : S) (w : E), n ≤ k → wt_wh F n v = some w → wt_wh F k v = some w := by
  intro n
  induction n with
  | zero => intro k v w _ h; exact absurd h wt_wh_z
  | succ n ih =>
    intro k v w hk h
    cases k with
    | zero => omega
    | succ k =>
      unfold wt_wh at h ⊢
      cases hF : F v with
      | none => rw [hF] at h; cases h
      | some r =>
        rw [hF] at h
        cases r with
        | inl v' => exact ih k v' w (by omega) h
        | inr e => exact h
theorem wt_whC_of {S E : Type} {F : S → Option (S ⊕ E)} {n : Nat} {v : S} {w : E} (h : wt_wh F n v = some w) : wt_whC F v = some w := by
  have hx : ∃ n, (wt_wh F n v).isSome = true := ⟨n, by rw [h]; rfl⟩
  unfold wt_whC
  rw [dif_pos hx]
  have hc := Classical.choose_spec hx
  obtain ⟨w', hw'⟩ := Option.isSome_iff_exists.mp hc
  rw [hw']
  rcases Nat.le_total n (Classical.choose hx) with q | q
  · rw [← hw']; exact wt_wh_up _ _ _ _ q h
  · have := wt_wh_up _ _ _ _ q hw'
    rw [← this]; exact h
/-- one turn of a loop -/
theorem wt_whC_i {S E : Type} {F : S → Option (S ⊕ E)} {v v' : S} {w : E} (hF : F v = some (.inl v')) (h : wt_whC F v' = some w) : wt_whC F v = some w := by
  obtain ⟨n, hn⟩ := wt_whC_o h
  refine wt_whC_of (n := n + 1) ?_
  unfold wt_wh
  rw [hF]
  exact hn
theorem wt_whC_e {S E : Type} {F : S → Option (S ⊕ E)} {v : S} {e : E} (hF : F v = some (.inr e)) : wt_whC F v = some e := by
  refine wt_whC_of (n := 1) ?_
  unfold wt_wh
  rw [hF]
theorem wt_whC_u {S E : Type} {F : S → Option (S ⊕ E)} {v : S} : wt_whC F v = wt_bd (F v) (fun r => match r with | .inl v' => wt_whC F v' | .inr e => some e) := by
  cases hF : F v with
  | none =>
    cases hw : wt_whC F v with
    | none => rfl
    | some w =>
      obtain ⟨n, hn⟩ := wt_whC_o hw
      cases n with
      | zero => exact absurd hn wt_wh_z
      | succ n => unfold wt_wh at hn; rw [hF] at hn; cases hn
  | some r =>
    cases r with
    | inr e => exact wt_whC_e hF
    | inl v' =>
      show wt_whC F v = wt_whC F v'
      cases hw : wt_whC F v' with
      | some w => exact wt_whC_i hF hw
      | none =>
        cases hv : wt_whC F v with
        | none => rfl
        | some w =>
          obtain ⟨n, hn⟩ := wt_whC_o hv
          cases n with
          | zero => exact absurd hn wt_wh_z
          | succ n =>
            unfold wt_wh at hn; rw [hF] at hn
            rw [wt_whC_of hn] at hw; cases hw
theorem wt_p1 {α β : Type} {a : α} {b : β} {o : α × β} (h : some (a, b) = some o) : a = o.1 := by cases h; rfl
theorem wt_p2 {α β : Type} {a : α} {b : β} {o : α × β} (h : some (a, b) = some o) : b = o.2 := by cases h; rfl
theorem wt_i32 {x y : Int32} {k : Int} (h : x.toInt = k) (hy : y.toInt = k) : x = y := Int32.toInt_inj.mp (h.trans hy.symm)
theorem vp_lt {i : Int32} {n : Nat} (h : vp_in i n) : i.toNatClampNeg < n := Nat.not_le.mp fun q => h (Or.inr q)
/-! the model's state: int fields; arrays; arrays of arrays (by the field's number) -/
abbrev MSt : Type := (Nat → Int32) × (Nat → Nat → Int32) × (Nat → Nat → Nat → Int32)
/-- ((the object, the arrays by field, the rows by field), (class, field slots, class of int[], class of int[][])) -/
abbrev MPar : Type := (Nat × (Nat → Nat) × (Nat → Nat → Nat)) × (ClassId × (Nat → Nat) × ClassId × ClassId)
def m_n1 (k : Nat) : Nat := match k with
  | 7 => 400 | 13 => 10 | 14 => 10 | 15 => 10 | 21 => 10 | 22 => 10 | 23 => 10 | 25 => 4 | 33 => 40 | 40 => 10
  | _ => 0
def m_n2 (k : Nat) : Nat := match k with
  | 12 => 8 | 20 => 8 | 26 => 80 | 27 => 21 | 32 => 8 | 34 => 12 | 35 => 24 | 36 => 3 | 37 => 36 | 38 => 3 | 39 => 10 | 48 => 3
  | _ => 0
def m_w2 (k : Nat) : Nat := match k with
  | 12 => 10 | 20 => 10 | 26 => 4 | 27 => 4 | 32 => 4 | 34 => 3 | 35 => 4 | 36 => 40 | 37 => 3 | 38 => 3 | 39 => 10 | 48 => 330
  | _ => 0
def m_ar (k : Nat) : Bool := match k with
  | 7 => true | 12 => true | 13 => true | 14 => true | 15 => true | 20 => true | 21 => true | 22 => true | 23 => true | 25 => true | 26 => true | 27 => true
  | 32 => true | 33 => true | 34 => true | 35 => true | 36 => true | 37 => true | 38 => true | 39 => true | 40 => true | 48 => true
  | _ => false
def m_sF (σ : MSt) (k : Nat) (v : Int32) : MSt := (upd σ.1 k v, σ.2.1, σ.2.2)
def m_sA (σ : MSt) (k i : Nat) (v : Int32) : MSt := (σ.1, fun a => if a = k then upd (σ.2.1 k) i v else σ.2.1 a, σ.2.2)
def m_sG (σ : MSt) (k i j : Nat) (v : Int32) : MSt := (σ.1, σ.2.1, fun a b => if a = k ∧ b = i then upd (σ.2.2 k i) j v else σ.2.2 a b)
def m_V (X : MPar) (σ : MSt) (k : Nat) : Value := match m_ar k with
  | true => .ref (X.1.2.1 k)
  | false => .int (σ.1 k)
def mW (X : MPar) (σ : MSt) (H : Heap) : Prop :=
  t_OB X.1.1 X.2.1 50 X.2.2.1 H (m_V X σ) ∧
  (∀ k, 0 < m_n1 k → H[X.1.2.1 k]? = some (vp_cell X.2.2.2.1 (m_n1 k, .inl (σ.2.1 k)))) ∧
  (∀ k, 0 < m_n2 k → H[X.1.2.1 k]? = some (vp_cell X.2.2.2.2 (m_n2 k, .inr (.inr (.inr (.inr (fun i => some (X.1.2.2 k i)))))))) ∧
  (∀ k i, i < m_n2 k → H[X.1.2.2 k i]? = some (vp_cell X.2.2.2.1 (m_w2 k, .inl (σ.2.2 k i))))
def mK (X : MPar) (U : State) : Prop := u_Kn U RX4 TX4 50 X.2.1 X.2.2.1 ∧ ArrOfT U X.2.2.2.1 .int ∧ ArrOfT U X.2.2.2.2 (.array .int)
/-- the addresses: within a stretch, and apart -/
def mJ (X : MPar) (lo hi : Nat) : Prop :=
  (lo ≤ X.1.1 ∧ X.1.1 < hi) ∧
  (∀ k, 0 < m_n1 k + m_n2 k → (lo ≤ X.1.2.1 k ∧ X.1.2.1 k < hi) ∧ X.1.2.1 k ≠ X.1.1) ∧
  (∀ k i, i < m_n2 k → (lo ≤ X.1.2.2 k i ∧ X.1.2.2 k i < hi) ∧ X.1.2.2 k i ≠ X.1.1) ∧
  (∀ k k', 0 < m_n1 k + m_n2 k → 0 < m_n1 k' + m_n2 k' → X.1.2.1 k = X.1.2.1 k' → k = k') ∧
  (∀ k k' i, 0 < m_n1 k + m_n2 k → i < m_n2 k' → X.1.2.1 k ≠ X.1.2.2 k' i) ∧
  (∀ k i k' i', i < m_n2 k → i' < m_n2 k' → X.1.2.2 k i = X.1.2.2 k' i' → k = k' ∧ i = i')
def mA (lo hi : Nat) : Nat → Prop := fun q => lo ≤ q ∧ q < hi
theorem mK.moved {X : MPar} {u U : State} (hvm : u.vm.Alike U.vm) (h : mK X u) : mK X U := ⟨u_Kn_moved hvm h.1, arrOfT_moved hvm h.2.1, arrOfT_moved hvm h.2.2⟩
theorem mW.kept {X : MPar} {σ : MSt} {H H1 : Heap} (h : mW X σ H) (hq : ∀ q : Nat, q < H.size → H1[q]? = H[q]?) : mW X σ H1 := by
  have lt : ∀ {q : Nat} {c : Cell}, H[q]? = some c → q < H.size := fun h => (Array.getElem?_eq_some_iff.mp h).1
  obtain ⟨h1, h2, h3, h4⟩ := h
  refine ⟨?_, fun k hk => ?_, fun k hk => ?_, fun k i hi => ?_⟩
  · obtain ⟨cell, q1, q2⟩ := h1
    exact ⟨cell, by rw [hq _ (lt q1)]; exact q1, q2⟩
  · rw [hq _ (lt (h2 k hk))]; exact h2 k hk
  · rw [hq _ (lt (h3 k hk))]; exact h3 k hk
  · rw [hq _ (lt (h4 k i hi))]; exact h4 k i hi
theorem m_n12 : ∀ k, k < 50 → 0 < m_n1 k → m_n2 k = 0 := by decide +kernel
theorem m_n1_lt {k : Nat} (h : 0 < m_n1 k) : k < 50 := by
  unfold m_n1 at h
  split at h <;> first | omega | (exfalso; omega)
theorem m_n2_lt {k : Nat} (h : 0 < m_n2 k) : k < 50 := by
  unfold m_n2 at h
  split at h <;> first | omega | (exfalso; omega)
theorem tX4_own : ∀ k, k < 50 → (TX4 k).1 = RX4 := by decide +kernel
theorem tX4_sc : ∀ k, k < 50 → m_ar k = false → (TX4 k).2.2.2 = false ∧ (TX4 k).2.2.1 = "I" := by decide +kernel
theorem m_V_sF {X : MPar} {σ : MSt} {k : Nat} {v : Int32} (h : m_ar k = false) (j : Nat) : updV (m_V X σ) k (.int v) j = m_V X (m_sF σ k v) j := by
  unfold updV m_V m_sF upd
  by_cases hj : j = k
  · subst hj
    simp [h]
  · simp [hj]
theorem m_apart {s : State} {args : Array Value} {cC : ClassId} {iS : Nat → Nat} (hts : ∀ w ∈ lw_all, w.before args s = true) (hK : u_Kn s RX4 TX4 50 cC iS) : ∀ x y, x < 50 → y < 50 → x ≠ y → iS x ≠ iS y := by
  intro x y hx hy hne
  obtain ⟨hS, -⟩ := hK
  obtain ⟨_, _, _, fa, hia, ea⟩ := hS x hx
  obtain ⟨_, _, _, fb, hib, eb⟩ := hS y hy
  rw [← ea, ← eb]
  refine u_apart (u_lays hts in_X4 hx) (u_lays hts in_X4 hy) hia hib ?_
  rw [(State.fieldFound?_type hia (tyX4_ok x hx)).1, (State.fieldFound?_type hib (tyX4_ok y hy)).1]
  exact nmX4 x hx y hy hne
/-! contracts' starts and ends -/
def mP (X : MPar) (σ : MSt) (av : List Value) : Array Value → State → Prop := va_Pc av (fun U => mW X σ U.heap ∧ mK X U)
def mQi (X : MPar) (r : Int32) (σ : MSt) (A : Nat → Prop) : Array Value → State → Outcome → State → Prop := va_Qi (fun (r' : Int32) (_ : Unit) => r' = r) (fun _ t => mW X σ t.heap ∧ mK X t) A
def mQv (X : MPar) (σ : MSt) (A : Nat → Prop) : Array Value → State → Outcome → State → Prop := va_Qv (fun (_ : Unit) => True) (fun _ t => mW X σ t.heap ∧ mK X t) A
def msQi (r : Int32) : Array Value → State → Outcome → State → Prop := va_Qi (fun (r' : Int32) (_ : Unit) => r' = r) (fun _ _ => True) (fun _ => False)
theorem mP_blind {X : MPar} {σ : MSt} {av : List Value} : FrameBlind (mP X σ av) := fun a U g mk q => ⟨q.1, q.2.1, mK.moved (u := U) (U := U.calling g mk a) (Vm.Alike.refl U.vm) q.2.2⟩
theorem mr_pre {s : State} {H : Heap} {X : MPar} {σ : MSt} {As : List Value} (hK : mK X s) (hW : mW X σ H) : PreV s H RX4 X.1.1 (mP X σ (.ref X.1.1 :: As)) As := by
  refine ⟨mP_blind, ?_, fun U hU hW' => ⟨rfl, by rw [hU]; exact hW, mK.moved hW'.alike hK⟩⟩
  obtain ⟨⟨cell, h1, h2, h3, -⟩, -⟩ := hW
  exact ⟨cell, h1, by rw [h3]; rfl, by rw [h2]; exact hK.1.2.1⟩
theorem ms_pre {s : State} {H : Heap} {As : List Value} : PreS s H (va_Pc As (fun _ => True)) As := ⟨fun _ _ _ _ q => q, fun _ _ _ => ⟨rfl, trivial⟩⟩
section MR
variable {p : Program} {l : Launch} {e : Env} {R : Room} {s : State} {m : MethodId} {args : Array Value} {below : List Frame} {meth : Method} {c : Code} {H : Heap} {locs : List Loc} {cells slots : Nat} {Q : State → Prop}
variable {cc : ByteArray} {pc : Nat} {ls : Array Slot} {rest : List Value} {X : MPar} {σ σ1 : MSt} {H0 : Heap} {lo hi : Nat}
theorem lv_tope {x y : Int32} (h : y = x) (k : W p l e R s m args below meth c H locs cells slots Q (F0 m pc ls (.int y :: rest))) : W p l e R s m args below meth c H locs cells slots Q (F0 m pc ls (.int x :: rest)) := h ▸ k
theorem lv_topel {x y : Int64} (h : y = x) (k : W p l e R s m args below meth c H locs cells slots Q (F0 m pc ls (.long y :: rest))) : W p l e R s m args below meth c H locs cells slots Q (F0 m pc ls (.long x :: rest)) := h ▸ k
theorem mr_get (k : Nat) {v : Value} {index : Nat} (hx : p.tables.exec = Jvm.exec) (hb : c.code = cc) (hts : ∀ w ∈ lw_all, w.before args s = true) (hown : s.vm.findClass RX4 = some m.cls) (hK : mK X s) (hW : mW X σ H) (hk : k < 50) (hv : m_V X σ k = v) (hlink : Cond.fieldLink RX4 index RX4 (TX4 k).2.1 (TX4 k).2.2.1 ∈ lw_all) (hdg : decode cc pc = .ok (.getfield index, 3))
    (kk : W p l e R s m args below meth c H locs cells slots Q (F0 m (pc + 3) ls (v :: rest))) : W p l e R s m args below meth c H locs cells slots Q (F0 m pc ls (.ref X.1.1 :: rest)) := by
  obtain ⟨⟨cell, q1, q2, q3, q4⟩, -⟩ := hW
  obtain ⟨⟨hS, hfc, kC, hkC, hkind⟩, -⟩ := hK
  obtain ⟨cf, kf, fi, f, hi, hsl⟩ := hS k hk
  have h1 : (TX4 k).1 = RX4 := tX4_own k hk
  have hst := (u_facts hfc hkC (u_lays hts in_X4 hk) hi).1
  rw [h1] at hi
  refine W.getf hx hb hown (hts _ hlink) hi hst q1 (by rw [q3]; exact fun h => by cases h) (v := v) ?_ rfl rfl hdg kk
  rw [hsl, q4 k hk, hv]
theorem mr_put (k : Nat) {v : Int32} {index : Nat} (hx : p.tables.exec = Jvm.exec) (hb : c.code = cc) (hts : ∀ w ∈ lw_all, w.before args s = true) (hown : s.vm.findClass RX4 = some m.cls) (hK : mK X s) (hW : mW X σ H) (hJ : mJ X lo hi) (hS0 : va_S (mA lo hi) H0 H locs) (hk : k < 50) (har : m_ar k = false) (hσ : σ1 = m_sF σ k v) (hlink : Cond.fieldLink RX4 index RX4 (TX4 k).2.1 (TX4 k).2.2.1 ∈ lw_all) (hdg : decode cc pc = .ok (.putfield index, 3))
    (kk : ∀ (H1 : Heap) (locs1 : List Loc), mW X σ1 H1 → va_S (mA lo hi) H0 H1 locs1 → W p l e R s m args below meth c H1 locs1 cells slots Q (F0 m (pc + 3) ls rest)) : W p l e R s m args below meth c H locs cells slots Q (F0 m pc ls (.int v :: .ref X.1.1 :: rest)) := by
  subst hσ
  have hap := m_apart hts hK.1
  obtain ⟨⟨cell, q1, q2, q3, q4⟩, w2, w3, w4⟩ := hW
  obtain ⟨⟨hS, hfc, kC, hkC, hkind⟩, -⟩ := hK
  obtain ⟨cf, kf, fi, f, hi, hsl⟩ := hS k hk
  have h1 : (TX4 k).1 = RX4 := tX4_own k hk
  obtain ⟨hfin, hd⟩ := tX4_sc k hk har
  have hlay := hts _ (in_X4 _ (u_in_lay hk))
  unfold u_lay at hlay
  rw [if_neg (by rw [hfin]; decide)] at hlay
  have hst := (u_facts hfc hkC (u_lays hts in_X4 hk) hi).1
  have h6 := u_store (v := .int v) hfc hkC hkind hlay hi (by rw [hd]; decide : parseFieldDescriptor (TX4 k).2.2.1 = some .int) rfl rfl
  rw [h1] at hi
  refine W.putK hx hb (f := f) ⟨hown, hts _ hlink, ⟨_, _, _, hi⟩, hst⟩ (by rw [q2]; exact h6) q1 q3 (by rw [hsl]; exact k2_hasslot (q4 k hk)) rfl rfl hdg fun H' e1 e2 e3 => ?_
  rw [hsl] at e1 ⊢
  refine kk H' _ ⟨t_OB.to (V := updV (m_V X σ) k (.int v)) ⟨_, e1, q2, q3, t_set q4 hap hk (.int v)⟩ (fun j _ => m_V_sF har j), fun j hj => ?_, fun j hj => ?_, fun j i hj => ?_⟩ (hS0.put e2 e3 hJ.1)
  · rw [e3 _ (hJ.2.1 j (by omega)).2]; exact w2 j hj
  · rw [e3 _ (hJ.2.1 j (by omega)).2]; exact w3 j hj
  · rw [e3 _ (hJ.2.2.1 j i hj).2]; exact w4 j i hj
theorem mr_ald (k : Nat) {n : Nat} {i : Int32} (hx : p.tables.exec = Jvm.exec) (hb : c.code = cc) (hK : mK X s) (hW : mW X σ H) (hn : m_n1 k = n) (hin : vp_in i n) (hdg : decode cc pc = .ok (.iaload, 1))
    (kk : W p l e R s m args below meth c H locs cells slots Q (F0 m (pc + 1) ls (.int (σ.2.1 k i.toNatClampNeg) :: rest))) : W p l e R s m args below meth c H locs cells slots Q (F0 m pc ls (.int i :: .ref (X.1.2.1 k) :: rest)) := by
  subst hn
  have hlt : i.toNatClampNeg < m_n1 k := vp_lt hin
  exact W.iald (v := .int (σ.2.1 k i.toNatClampNeg)) hx hb (hW.2.1 k (by omega)) (hK.2.1 (m_n1 k) (fun j => .int (σ.2.1 k j))) (fun q => by cases q) (by show ¬ (i < 0 ∨ (arrV _ _ _).slots.size ≤ _); rw [arrV_size]; exact hin) (by show (arrV _ _ _).slots[_]? = _; rw [arrV_read _ _ hlt]) rfl rfl hdg kk
theorem mr_row (k : Nat) {n : Nat} {i : Int32} (hx : p.tables.exec = Jvm.exec) (hb : c.code = cc) (hK : mK X s) (hW : mW X σ H) (hn : m_n2 k = n) (hin : vp_in i n) (hdg : decode cc pc = .ok (.aaload, 1))
    (kk : W p l e R s m args below meth c H locs cells slots Q (F0 m (pc + 1) ls (.ref (X.1.2.2 k i.toNatClampNeg) :: rest))) : W p l e R s m args below meth c H locs cells slots Q (F0 m pc ls (.int i :: .ref (X.1.2.1 k) :: rest)) := by
  subst hn
  have hlt : i.toNatClampNeg < m_n2 k := vp_lt hin
  exact W.aald (v := va_rf (some (X.1.2.2 k i.toNatClampNeg))) (ty := .array .int) hx hb (hW.2.2.1 k (by omega)) (hK.2.2 (m_n2 k) (fun j => va_rf (some (X.1.2.2 k j)))) rfl (fun q => by cases q) (by show ¬ (i < 0 ∨ (arrV _ _ _).slots.size ≤ _); rw [arrV_size]; exact hin) (by show (arrV _ _ _).slots[_]? = _; rw [arrV_read _ _ hlt]) rfl rfl hdg kk
theorem mr_gld (k i : Nat) {n : Nat} {j : Int32} (hx : p.tables.exec = Jvm.exec) (hb : c.code = cc) (hK : mK X s) (hW : mW X σ H) (hi2 : i < m_n2 k) (hn : m_w2 k = n) (hin : vp_in j n) (hdg : decode cc pc = .ok (.iaload, 1))
    (kk : W p l e R s m args below meth c H locs cells slots Q (F0 m (pc + 1) ls (.int (σ.2.2 k i j.toNatClampNeg) :: rest))) : W p l e R s m args below meth c H locs cells slots Q (F0 m pc ls (.int j :: .ref (X.1.2.2 k i) :: rest)) := by
  subst hn
  have hlt : j.toNatClampNeg < m_w2 k := vp_lt hin
  exact W.iald (v := .int (σ.2.2 k i j.toNatClampNeg)) hx hb (hW.2.2.2 k i hi2) (hK.2.1 (m_w2 k) (fun j => .int (σ.2.2 k i j))) (fun q => by cases q) (by show ¬ (j < 0 ∨ (arrV _ _ _).slots.size ≤ _); rw [arrV_size]; exact hin) (by show (arrV _ _ _).slots[_]? = _; rw [arrV_read _ _ hlt]) rfl rfl hdg kk
theorem m_stored {cA : ClassId} {n i : Nat} {f : Nat → Int32} {v : Int32} : (vp_cell cA (n, .inl f)).setSlot i (.int v) = vp_cell cA (n, .inl (upd f i v)) := by
  rw [vp_cell_i, vp_cell_i, arrV_store]
  congr 1
  funext q
  by_cases hq : q = i
  · subst hq
    simp [updV, upd]
  · simp [updV, upd, hq]
theorem mr_ast (k : Nat) {n : Nat} {i v : Int32} (hx : p.tables.exec = Jvm.exec) (hb : c.code = cc) (hK : mK X s) (hW : mW X σ H) (hJ : mJ X lo hi) (hS0 : va_S (mA lo hi) H0 H locs) (hn : m_n1 k = n) (hin : vp_in i n) (hσ : σ1 = m_sA σ k i.toNatClampNeg v) (hdg : decode cc pc = .ok (.iastore, 1))
    (kk : ∀ (H1 : Heap) (locs1 : List Loc), mW X σ1 H1 → va_S (mA lo hi) H0 H1 locs1 → W p l e R s m args below meth c H1 locs1 cells slots Q (F0 m (pc + 1) ls rest)) : W p l e R s m args below meth c H locs cells slots Q (F0 m pc ls (.int v :: .int i :: .ref (X.1.2.1 k) :: rest)) := by
  subst hn hσ
  have hlt : i.toNatClampNeg < m_n1 k := vp_lt hin
  obtain ⟨w1, w2, w3, w4⟩ := hW
  refine W.iast hx hb (w2 k (by omega)) (hK.2.1 (m_n1 k) (fun j => .int (σ.2.1 k j))) (fun q => by cases q) (by show ¬ (i < 0 ∨ (arrV _ _ _).slots.size ≤ _); rw [arrV_size]; exact hin) rfl rfl hdg fun H1 e z oq => ?_
  rw [m_stored] at e
  refine kk H1 _ ⟨w1.kept (oq _ (Ne.symm (hJ.2.1 k (by omega)).2)), fun j hj => ?_, fun j hj => ?_, fun j i' hj => ?_⟩ (hS0.put z oq (hJ.2.1 k (by omega)).1)
  · by_cases hjk : j = k
    · subst hjk
      rw [e]
      simp [m_sA]
    · rw [oq _ (fun h => hjk (hJ.2.2.2.1 j k (by omega) (by omega) h)), w2 j hj]
      simp [m_sA, hjk]
  · have hjk : j ≠ k := by
      intro h; subst h
      have := m_n12 j (m_n1_lt (by omega)) (by omega)
      omega
    rw [oq _ (fun h => hjk (hJ.2.2.2.1 j k (by omega) (by omega) h)), w3 j hj]
  · rw [oq _ (fun h => hJ.2.2.2.2.1 k j i' (by omega) hj h.symm), w4 j i' hj]
    rfl
theorem mr_gst (k i : Nat) {n : Nat} {j v : Int32} (hx : p.tables.exec = Jvm.exec) (hb : c.code = cc) (hK : mK X s) (hW : mW X σ H) (hJ : mJ X lo hi) (hS0 : va_S (mA lo hi) H0 H locs) (hi2 : i < m_n2 k) (hn : m_w2 k = n) (hin : vp_in j n) (hσ : σ1 = m_sG σ k i j.toNatClampNeg v) (hdg : decode cc pc = .ok (.iastore, 1))
    (kk : ∀ (H1 : Heap) (locs1 : List Loc), mW X σ1 H1 → va_S (mA lo hi) H0 H1 locs1 → W p l e R s m args below meth c H1 locs1 cells slots Q (F0 m (pc + 1) ls rest)) : W p l e R s m args below meth c H locs cells slots Q (F0 m pc ls (.int v :: .int j :: .ref (X.1.2.2 k i) :: rest)) := by
  subst hn hσ
  have hlt : j.toNatClampNeg < m_w2 k := vp_lt hin
  obtain ⟨w1, w2, w3, w4⟩ := hW
  refine W.iast hx hb (w4 k i hi2) (hK.2.1 (m_w2 k) (fun j => .int (σ.2.2 k i j))) (fun q => by cases q) (by show ¬ (j < 0 ∨ (arrV _ _ _).slots.size ≤ _); rw [arrV_size]; exact hin) rfl rfl hdg fun H1 e z oq => ?_
  rw [m_stored] at e
  refine kk H1 _ ⟨w1.kept (oq _ (Ne.symm (hJ.2.2.1 k i hi2).2)), fun a ha => ?_, fun a ha => ?_, fun a b hab => ?_⟩ (hS0.put z oq (hJ.2.2.1 k i hi2).1)
  · rw [oq _ (hJ.2.2.2.2.1 a k i (by omega) hi2), w2 a ha]
    rfl
  · rw [oq _ (hJ.2.2.2.2.1 a k i (by omega) hi2), w3 a ha]
  · by_cases hq : a = k ∧ b = i
    · obtain ⟨rfl, rfl⟩ := hq
      rw [e]
      simp [m_sG]
    · rw [oq _ (fun h => hq (hJ.2.2.2.2.2 a b k i hab hi2 h)), w4 a b hab]
      simp [m_sG, hq]
theorem mr_iret {v r : Int32} {σ2 : MSt} {ty : FieldType} (hx : p.tables.exec = Jvm.exec) (hb : c.code = cc) (hr : meth.sig.returnType = some ty) (hn : narrow ty (.int v) = .int v) (hlocks : meth.locks = false) (h1 : v = r) (h2 : σ = σ2) (hW : mW X σ H) (hK : mK X s) (hS : va_S (mA lo hi) s.heap H locs) (hdg : decode cc pc = .ok (.ireturn, 1)) :
    W p l e R s m args below meth c H locs cells slots (MQ below (mQi X r σ2 (mA lo hi)) args s cells slots (mA lo hi)) (F0 m pc ls [.int v]) := by
  subst h1 h2
  exact W.zret hx hb hr hn (fun t ht hW' => ⟨⟨v, (), rfl, rfl, by rw [ht]; exact hW, mK.moved hW'.alike hK⟩, hS.F ht⟩) hS.2.2 hdg hlocks
theorem mr_vret {σ2 : MSt} (hx : p.tables.exec = Jvm.exec) (hb : c.code = cc) (hr : meth.sig.returnType = none) (hlocks : meth.locks = false) (h2 : σ = σ2) (hW : mW X σ H) (hK : mK X s) (hS : va_S (mA lo hi) s.heap H locs) (hdg : decode cc pc = .ok (.return_, 1)) :
    W p l e R s m args below meth c H locs cells slots (MQ below (mQv X σ2 (mA lo hi)) args s cells slots (mA lo hi)) (F0 m pc ls []) := by
  subst h2
  exact W.vret hx hb hr (fun t ht hW' => ⟨⟨(), rfl, trivial, by rw [ht]; exact hW, mK.moved hW'.alike hK⟩, hS.F ht⟩) hS.2.2 hdg hlocks
theorem ms_iret {v r : Int32} {ty : FieldType} (hx : p.tables.exec = Jvm.exec) (hb : c.code = cc) (hr : meth.sig.returnType = some ty) (hn : narrow ty (.int v) = .int v) (hlocks : meth.locks = false) (h1 : v = r) (hS : va_S (fun _ => False) s.heap H locs) (hdg : decode cc pc = .ok (.ireturn, 1)) :
    W p l e R s m args below meth c H locs cells slots (MQ below (msQi r) args s cells slots (fun _ => False)) (F0 m pc ls [.int v]) := by
  subst h1
  exact W.zret hx hb hr hn (fun t ht hW' => ⟨⟨v, (), rfl, rfl, trivial⟩, hS.F ht⟩) hS.2.2 hdg hlocks
end MR
