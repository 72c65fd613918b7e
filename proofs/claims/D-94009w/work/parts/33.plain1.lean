/-! THE PLAIN LAW, 1: what an Option computes, and has (wp); loops; small ints; a frame of the model's state -/
set_option maxRecDepth 100000
def wp {α : Type} (x : Option α) (Q : α → Prop) : Prop := ∃ a, x = some a ∧ Q a
theorem wp_some {α : Type} {a : α} {Q : α → Prop} : wp (some a) Q = Q a := propext ⟨fun ⟨b, h, hq⟩ => (by cases h; exact hq), fun h => ⟨a, rfl, h⟩⟩
theorem wp_none {α : Type} {Q : α → Prop} : wp none Q = False := propext ⟨fun ⟨_, h, _⟩ => (by cases h), fun h => h.elim⟩
theorem wp_bd {α β : Type} {x : Option α} {f : α → Option β} {Q : β → Prop} : wp (wt_bd x f) Q = wp x (fun a => wp (f a) Q) := propext ⟨fun ⟨b, h, hq⟩ => by
  obtain ⟨a, h1, h2⟩ := wt_bd_o h
  exact ⟨a, h1, b, h2, hq⟩, fun ⟨a, h1, b, h2, hq⟩ => ⟨b, by subst h1; exact h2, hq⟩⟩
theorem wp_lt {α β : Type} {x : α} {f : α → Option β} {Q : β → Prop} : wp (wt_lt x f) Q = wp (f x) Q := rfl
theorem wp_ck {β : Type} {p : Prop} {x : Option β} {Q : β → Prop} : wp (wt_ck p x) Q = (p ∧ wp x Q) := propext ⟨fun ⟨b, h, hq⟩ => ⟨(wt_ck_o h).1, b, (wt_ck_o h).2, hq⟩, fun ⟨hp, b, h, hq⟩ => ⟨b, (wt_ck_t hp).trans h, hq⟩⟩
theorem wp_ite {α : Type} {c : Prop} [Decidable c] {x y : Option α} {Q : α → Prop} : wp (if c then x else y) Q = if c then wp x Q else wp y Q := by
  by_cases h : c
  · rw [if_pos h, if_pos h]
  · rw [if_neg h, if_neg h]
theorem wp_lt_id {α β : Type} {x : α} {f : α → β} : wt_lt x f = f x := rfl
theorem wp_mono {α : Type} {x : Option α} {P Q : α → Prop} (h : wp x P) (hq : ∀ a, P a → Q a) : wp x Q := by
  obtain ⟨a, h1, h2⟩ := h
  exact ⟨a, h1, hq a h2⟩
theorem wp_and {α : Type} {x : Option α} {P Q : α → Prop} (h : wp x P) (h' : wp x Q) : wp x (fun a => P a ∧ Q a) := by
  obtain ⟨a, h1, h2⟩ := h
  obtain ⟨b, h3, h4⟩ := h'
  rw [h1] at h3
  cases h3
  exact ⟨a, h1, h2, h4⟩
theorem wp_eq {α : Type} {x : Option α} {a : α} (h : wp x (fun r => r = a)) : x = some a := by
  obtain ⟨b, h1, h2⟩ := h
  rw [h1, h2]
theorem wp_of {α : Type} {x : Option α} {a : α} {Q : α → Prop} (h : x = some a) (hq : Q a) : wp x Q := ⟨a, h, hq⟩
theorem wp_ap {α β : Type} {x : Option α} {f : α → Option β} {P : α → Prop} {Q : β → Prop} (h : wp x P) (hq : ∀ a, P a → wp (f a) Q) : wp (wt_bd x f) Q := by
  rw [wp_bd]
  exact wp_mono h hq
theorem rs_l {α τ β : Type} {a : α} {f : α → β} {g : τ → β} : wt_rs (.inl a) f g = f a := rfl
theorem rs_r {α τ β : Type} {t : τ} {f : α → β} {g : τ → β} : wt_rs (.inr t) f g = g t := rfl
theorem om_n {α : Type} {a : α} {f : Nat → α} : wt_om none a f = a := rfl
theorem om_s {α : Type} {q : Nat} {a : α} {f : Nat → α} : wt_om (some q) a f = f q := rfl
/-! loops -/
def lpo {S E : Type} (I : S → Prop) (Q : E → Prop) (r : S ⊕ E) : Prop := match r with
  | .inl w => I w
  | .inr e => Q e
theorem lpo_l {S E : Type} {I : S → Prop} {Q : E → Prop} {w : S} : lpo I Q (.inl w) = I w := rfl
theorem lpo_r {S E : Type} {I : S → Prop} {Q : E → Prop} {e : E} : lpo I Q (.inr e) = Q e := rfl
theorem wp_loop {S E : Type} {F : S → Option (S ⊕ E)} {Q : E → Prop} (I : Nat → S → Prop) (hs : ∀ n w, I n w → wp (F w) (lpo (fun w' => ∃ m, m < n ∧ I m w') Q)) : ∀ n v, I n v → wp (wt_whC F v) Q := by
  intro n
  induction n using Nat.strongRecOn with
  | ind n ih =>
    intro v hv
    obtain ⟨r, hr, hq⟩ := hs n v hv
    cases r with
    | inl w' =>
      obtain ⟨m, hm, hi⟩ := hq
      obtain ⟨e, he, hq2⟩ := ih m hm w' hi
      exact ⟨e, wt_whC_i hr he, hq2⟩
    | inr e => exact ⟨e, wt_whC_e hr, hq⟩
theorem wp_for {S E : Type} {F : S → Option (S ⊕ E)} {Q : E → Prop} (N k : Nat) (I : Nat → S → Prop) {v : S} (hk : k ≤ N) (h0 : I k v) (hs : ∀ j w, j < N → I j w → wp (F w) (lpo (I (j + 1)) Q)) (hf : ∀ w, I N w → wp (F w) (lpo (fun _ => False) Q)) : wp (wt_whC F v) Q := by
  refine wp_loop (fun n w => ∃ j, j ≤ N ∧ n = N - j ∧ I j w) ?_ (N - k) v ⟨k, hk, rfl, h0⟩
  rintro n w ⟨j, hj, hn, hi⟩
  rcases Nat.lt_or_ge j N with hlt | hge
  · refine wp_mono (hs j w hlt hi) fun r hr => ?_
    cases r with
    | inl w' => exact ⟨N - (j + 1), by omega, j + 1, hlt, rfl, hr⟩
    | inr e => exact hr
  · have e : j = N := by omega
    rw [e] at hi
    refine wp_mono (hf w hi) fun r hr => ?_
    cases r with
    | inl w' => exact hr.elim
    | inr e => exact hr
/-! small ints: a literal is n as its number -/
theorem fl (n : Nat) : (OfNat.ofNat n : Int32) = nI (OfNat.ofNat n : Nat) := rfl
theorem il_le {n k : Nat} (hn : (OfNat.ofNat n : Nat) < 2 ^ 31) (hk : k < 2 ^ 31) : ((OfNat.ofNat n : Int32) ≤ nI k) = ((OfNat.ofNat n : Nat) ≤ k) := propext (nI_leI hn hk)
theorem il_le2 {n k : Nat} (hn : (OfNat.ofNat n : Nat) < 2 ^ 31) (hk : k < 2 ^ 31) : (nI k ≤ (OfNat.ofNat n : Int32)) = (k ≤ (OfNat.ofNat n : Nat)) := propext (nI_leI hk hn)
theorem il_lt {n k : Nat} (hn : (OfNat.ofNat n : Nat) < 2 ^ 31) (hk : k < 2 ^ 31) : ((OfNat.ofNat n : Int32) < nI k) = ((OfNat.ofNat n : Nat) < k) := propext (nI_ltI hn hk)
theorem il_lt2 {n k : Nat} (hn : (OfNat.ofNat n : Nat) < 2 ^ 31) (hk : k < 2 ^ 31) : (nI k < (OfNat.ofNat n : Int32)) = (k < (OfNat.ofNat n : Nat)) := propext (nI_ltI hk hn)
theorem il_eq {n k : Nat} (hn : (OfNat.ofNat n : Nat) < 2 ^ 31) (hk : k < 2 ^ 31) : ((OfNat.ofNat n : Int32) = nI k) = ((OfNat.ofNat n : Nat) = k) := propext (nI_eq hn hk)
theorem il_eq2 {n k : Nat} (hn : (OfNat.ofNat n : Nat) < 2 ^ 31) (hk : k < 2 ^ 31) : (nI k = (OfNat.ofNat n : Int32)) = (k = (OfNat.ofNat n : Nat)) := propext (nI_eq hk hn)
theorem il_add {n k : Nat} : nI k + (OfNat.ofNat n : Int32) = nI (k + (OfNat.ofNat n : Nat)) := nI_add k _
theorem il_add2 {n k : Nat} : (OfNat.ofNat n : Int32) + nI k = nI ((OfNat.ofNat n : Nat) + k) := nI_add _ k
theorem il_sub {n k : Nat} (h : (OfNat.ofNat n : Nat) ≤ k) : nI k - (OfNat.ofNat n : Int32) = nI (k - (OfNat.ofNat n : Nat)) := pk_sub h
theorem il_sub2 {n k : Nat} (h : k ≤ (OfNat.ofNat n : Nat)) : (OfNat.ofNat n : Int32) - nI k = nI ((OfNat.ofNat n : Nat) - k) := pk_sub h
theorem il_mul {n k : Nat} : (OfNat.ofNat n : Int32) * nI k = nI ((OfNat.ofNat n : Nat) * k) := pk_mul _ k
theorem il_mul2 {n k : Nat} : nI k * (OfNat.ofNat n : Int32) = nI (k * (OfNat.ofNat n : Nat)) := pk_mul k _
theorem il_div {n k : Nat} (hk : k < 2 ^ 31) (h0 : 0 < (OfNat.ofNat n : Nat)) (hn : (OfNat.ofNat n : Nat) < 2 ^ 31) : nI k / (OfNat.ofNat n : Int32) = nI (k / (OfNat.ofNat n : Nat)) := pk_div hk h0 hn
theorem il_clamp {n : Nat} (hn : (OfNat.ofNat n : Nat) < 2 ^ 31) : (OfNat.ofNat n : Int32).toNatClampNeg = (OfNat.ofNat n : Nat) := nI_clamp hn
theorem vp_nI {n k : Nat} (hk : k < 2 ^ 31) : vp_in (nI k) n = (k < n) := propext (by
  rw [vp_in_iff, nI_toInt hk]
  omega)
theorem vp_il {n k : Nat} (hk : (OfNat.ofNat k : Nat) < 2 ^ 31) : vp_in (OfNat.ofNat k : Int32) n = ((OfNat.ofNat k : Nat) < n) := vp_nI hk
theorem nI_neg {k : Nat} (hk : k < 2 ^ 31) : (nI k = -1) = False := propext ⟨fun h => by
  have h2 := congrArg Int32.toInt h
  rw [nI_toInt hk, show (-1 : Int32).toInt = -1 from by decide] at h2
  omega, fun h => h.elim⟩
theorem nI_neg0 {k : Nat} (hk : k < 2 ^ 31) : (nI k < 0) = False := propext ⟨fun h => nI_pos hk h, fun h => h.elim⟩
/-- an int between 0 and a bound is a small number -/
theorem nI_ex {x : Int32} {n : Nat} (h0 : ¬ x < 0) (h1 : x ≤ nI n) (hn : n < 2 ^ 31) : ∃ k, k ≤ n ∧ x = nI k := by
  obtain ⟨j, hj, e⟩ := nI_of h0
  subst e
  exact ⟨j, (nI_leI hj hn).mp h1, rfl⟩
theorem i_lt {a b : Int32} : (a < b) = (a.toInt < b.toInt) := propext Int32.lt_iff_toInt_lt
theorem i_le {a b : Int32} : (a ≤ b) = (a.toInt ≤ b.toInt) := propext Int32.le_iff_toInt_le
theorem i_eq {a b : Int32} : (a = b) = (a.toInt = b.toInt) := propext Int32.toInt_inj.symm
theorem i_rg (x : Int32) : -2147483648 ≤ x.toInt ∧ x.toInt < 2147483648 := by
  have h1 := Int32.le_toInt x
  have h2 := Int32.toInt_lt x
  constructor
  · first | exact h1 | omega
  · first | exact h2 | omega
theorem i_bm {z : Int} (h1 : -2147483648 ≤ z) (h2 : z < 2147483648) : z.bmod (2 ^ 32) = z := Int.bmod_eq_of_le (by omega) (by omega)
theorem i_add {x y : Int32} (h1 : -2147483648 ≤ x.toInt + y.toInt) (h2 : x.toInt + y.toInt < 2147483648) : (x + y).toInt = x.toInt + y.toInt := by
  rw [Int32.toInt_add]; exact i_bm h1 h2
theorem i_sub {x y : Int32} (h1 : -2147483648 ≤ x.toInt - y.toInt) (h2 : x.toInt - y.toInt < 2147483648) : (x - y).toInt = x.toInt - y.toInt := by
  rw [Int32.toInt_sub]; exact i_bm h1 h2
theorem i_mul {x y : Int32} (h1 : -2147483648 ≤ x.toInt * y.toInt) (h2 : x.toInt * y.toInt < 2147483648) : (x * y).toInt = x.toInt * y.toInt := by
  rw [Int32.toInt_mul]; exact i_bm h1 h2
theorem ck_t {β : Type} {x : Option β} : wt_ck True x = x := wt_ck_t trivial
theorem d01 : ((0 : Int32) = 1) = False := eq_false (by decide)
theorem d02 : ((0 : Int32) = 2) = False := eq_false (by decide)
theorem d03 : ((0 : Int32) = 3) = False := eq_false (by decide)
theorem d04 : ((0 : Int32) = 4) = False := eq_false (by decide)
theorem d05 : ((0 : Int32) = 5) = False := eq_false (by decide)
theorem d06 : ((0 : Int32) = 6) = False := eq_false (by decide)
theorem d10 : ((1 : Int32) = 0) = False := eq_false (by decide)
theorem d12 : ((1 : Int32) = 2) = False := eq_false (by decide)
theorem d13 : ((1 : Int32) = 3) = False := eq_false (by decide)
theorem d14 : ((1 : Int32) = 4) = False := eq_false (by decide)
theorem d15 : ((1 : Int32) = 5) = False := eq_false (by decide)
theorem d16 : ((1 : Int32) = 6) = False := eq_false (by decide)
theorem d20 : ((2 : Int32) = 0) = False := eq_false (by decide)
theorem d21 : ((2 : Int32) = 1) = False := eq_false (by decide)
theorem d23 : ((2 : Int32) = 3) = False := eq_false (by decide)
theorem d24 : ((2 : Int32) = 4) = False := eq_false (by decide)
theorem d25 : ((2 : Int32) = 5) = False := eq_false (by decide)
theorem d26 : ((2 : Int32) = 6) = False := eq_false (by decide)
theorem d30 : ((3 : Int32) = 0) = False := eq_false (by decide)
theorem d31 : ((3 : Int32) = 1) = False := eq_false (by decide)
theorem d32 : ((3 : Int32) = 2) = False := eq_false (by decide)
theorem d34 : ((3 : Int32) = 4) = False := eq_false (by decide)
theorem d35 : ((3 : Int32) = 5) = False := eq_false (by decide)
theorem d36 : ((3 : Int32) = 6) = False := eq_false (by decide)
theorem d40 : ((4 : Int32) = 0) = False := eq_false (by decide)
theorem d41 : ((4 : Int32) = 1) = False := eq_false (by decide)
theorem d42 : ((4 : Int32) = 2) = False := eq_false (by decide)
theorem d43 : ((4 : Int32) = 3) = False := eq_false (by decide)
theorem d45 : ((4 : Int32) = 5) = False := eq_false (by decide)
theorem d46 : ((4 : Int32) = 6) = False := eq_false (by decide)
theorem d50 : ((5 : Int32) = 0) = False := eq_false (by decide)
theorem d51 : ((5 : Int32) = 1) = False := eq_false (by decide)
theorem d52 : ((5 : Int32) = 2) = False := eq_false (by decide)
theorem d53 : ((5 : Int32) = 3) = False := eq_false (by decide)
theorem d54 : ((5 : Int32) = 4) = False := eq_false (by decide)
theorem d56 : ((5 : Int32) = 6) = False := eq_false (by decide)
theorem d60 : ((6 : Int32) = 0) = False := eq_false (by decide)
theorem d61 : ((6 : Int32) = 1) = False := eq_false (by decide)
theorem d62 : ((6 : Int32) = 2) = False := eq_false (by decide)
theorem d63 : ((6 : Int32) = 3) = False := eq_false (by decide)
theorem d64 : ((6 : Int32) = 4) = False := eq_false (by decide)
theorem d65 : ((6 : Int32) = 5) = False := eq_false (by decide)
theorem q_0 : (0 : Int32) = nI 0 := rfl
theorem q_2 : (2 : Int32) = nI 2 := rfl
theorem q_3 : (3 : Int32) = nI 3 := rfl
theorem q_4 : (4 : Int32) = nI 4 := rfl
theorem q_7 : (7 : Int32) = nI 7 := rfl
theorem q_8 : (8 : Int32) = nI 8 := rfl
theorem q_10 : (10 : Int32) = nI 10 := rfl
theorem q_16 : (16 : Int32) = nI 16 := rfl
theorem q_330 : (330 : Int32) = nI 330 := rfl
theorem c_0 : (0 : Int32).toNatClampNeg = 0 := by decide
theorem c_1 : (1 : Int32).toNatClampNeg = 1 := by decide
theorem c_2 : (2 : Int32).toNatClampNeg = 2 := by decide
theorem c_3 : (3 : Int32).toNatClampNeg = 3 := by decide
theorem vp_0 {N : Nat} : vp_in (0 : Int32) N = (0 < N) := vp_nI (k := 0) (by omega)
theorem vp_1 {N : Nat} : vp_in (1 : Int32) N = (1 < N) := vp_nI (k := 1) (by omega)
theorem vp_2 {N : Nat} : vp_in (2 : Int32) N = (2 < N) := vp_nI (k := 2) (by omega)
theorem vp_3 {N : Nat} : vp_in (3 : Int32) N = (3 < N) := vp_nI (k := 3) (by omega)
theorem nI_sub1 {x : Nat} (h : 0 < x) : nI x - 1 = nI (x - 1) := by
  obtain ⟨y, hy⟩ : ∃ y, x = y + 1 := ⟨x - 1, by omega⟩
  rw [hy]
  exact nI_pred y
theorem z_eq {k : Nat} (hk : k < 2 ^ 31) : (nI k = 0) = (k = 0) := propext (nI_eq (b := 0) hk (by omega))
theorem z_le {k : Nat} (hk : k < 2 ^ 31) : (nI k ≤ 0) = (k ≤ 0) := propext (nI_leI (b := 0) hk (by omega))
theorem eI_le {a b : Nat} (ha : a < 2 ^ 31) (hb : b < 2 ^ 31) : (nI a ≤ nI b) = (a ≤ b) := propext (nI_leI ha hb)
/-! booleans -/
theorem nb0 : narrow .boolean (.int 0) = Value.int 0 := by rfl
theorem nb1 : narrow .boolean (.int 1) = Value.int 1 := by rfl
/-! a frame of the model's state: all fields but f, all arrays but a, all arrays of arrays but g -/
def mE (f a g : List Nat) (σ σ' : MSt) : Prop := (∀ k, k ∉ f → σ'.1 k = σ.1 k) ∧ (∀ k, k ∉ a → σ'.2.1 k = σ.2.1 k) ∧ (∀ k, k ∉ g → σ'.2.2 k = σ.2.2 k)
theorem mE.rfl {f a g : List Nat} {σ : MSt} : mE f a g σ σ := ⟨fun _ _ => Eq.refl _, fun _ _ => Eq.refl _, fun _ _ => Eq.refl _⟩
theorem mE.trans {f a g : List Nat} {x y z : MSt} (h : mE f a g x y) (h' : mE f a g y z) : mE f a g x z := ⟨fun k hk => (h'.1 k hk).trans (h.1 k hk), fun k hk => (h'.2.1 k hk).trans (h.2.1 k hk), fun k hk => (h'.2.2 k hk).trans (h.2.2 k hk)⟩
theorem mE.wide {f a g f' a' g' : List Nat} {x y : MSt} (h : mE f a g x y) (hf : ∀ k, k ∈ f → k ∈ f') (ha : ∀ k, k ∈ a → k ∈ a') (hg : ∀ k, k ∈ g → k ∈ g') : mE f' a' g' x y := ⟨fun k hk => h.1 k fun z => hk (hf k z), fun k hk => h.2.1 k fun z => hk (ha k z), fun k hk => h.2.2 k fun z => hk (hg k z)⟩
theorem mE_sF {f a g : List Nat} {σ : MSt} {k : Nat} {v : Int32} (h : k ∈ f) : mE f a g σ (m_sF σ k v) := ⟨fun j hj => by
  have : j ≠ k := fun e => hj (e ▸ h)
  simp [m_sF, upd, this], fun _ _ => Eq.refl _, fun _ _ => Eq.refl _⟩
theorem mE_sA {f a g : List Nat} {σ : MSt} {k i : Nat} {v : Int32} (h : k ∈ a) : mE f a g σ (m_sA σ k i v) := ⟨fun _ _ => Eq.refl _, fun j hj => by
  have : j ≠ k := fun e => hj (e ▸ h)
  simp [m_sA, this], fun _ _ => Eq.refl _⟩
theorem mE_sG {f a g : List Nat} {σ : MSt} {k i j : Nat} {v : Int32} (h : k ∈ g) : mE f a g σ (m_sG σ k i j v) := ⟨fun _ _ => Eq.refl _, fun _ _ => Eq.refl _, fun q hq => by
  have : q ≠ k := fun e => hq (e ▸ h)
  funext b
  simp [m_sG, this]⟩
theorem sF_1 {σ : MSt} {k j : Nat} {v : Int32} : (m_sF σ k v).1 j = if j = k then v else σ.1 j := rfl
theorem sF_2 {σ : MSt} {k : Nat} {v : Int32} : (m_sF σ k v).2 = σ.2 := rfl
theorem sA_1 {σ : MSt} {k i : Nat} {v : Int32} : (m_sA σ k i v).1 = σ.1 := rfl
theorem sA_2 {σ : MSt} {k i j b : Nat} {v : Int32} : (m_sA σ k i v).2.1 j b = if j = k ∧ b = i then v else σ.2.1 j b := by
  unfold m_sA upd
  by_cases h : j = k
  · subst h
    by_cases h2 : b = i <;> simp [h2]
  · simp [h]
theorem sA_3 {σ : MSt} {k i : Nat} {v : Int32} : (m_sA σ k i v).2.2 = σ.2.2 := rfl
theorem sG_1 {σ : MSt} {k i j : Nat} {v : Int32} : (m_sG σ k i j v).1 = σ.1 := rfl
theorem sG_2 {σ : MSt} {k i j : Nat} {v : Int32} : (m_sG σ k i j v).2.1 = σ.2.1 := rfl
theorem sG_3 {σ : MSt} {k i j q b d : Nat} {v : Int32} : (m_sG σ k i j v).2.2 q b d = if q = k ∧ b = i ∧ d = j then v else σ.2.2 q b d := by
  unfold m_sG upd
  by_cases h : q = k ∧ b = i
  · obtain ⟨h1, h2⟩ := h
    subst h1; subst h2
    by_cases h3 : d = j <;> simp [h3]
  · have h' : ¬ (q = k ∧ b = i ∧ d = j) := fun z => h ⟨z.1, z.2.1⟩
    simp [h, h']
theorem mst_ext {x y : MSt} (h1 : ∀ k, x.1 k = y.1 k) (h2 : ∀ k i, x.2.1 k i = y.2.1 k i) (h3 : ∀ k i j, x.2.2 k i j = y.2.2 k i j) : x = y := by
  obtain ⟨a, b, c⟩ := x
  obtain ⟨a', b', c'⟩ := y
  have e1 : a = a' := funext h1
  have e2 : b = b' := funext fun k => funext (h2 k)
  have e3 : c = c' := funext fun k => funext fun i => funext (h3 k i)
  rw [e1, e2, e3]
/-! THE PLAIN LAW, 2: the model's small methods -/
set_option maxRecDepth 100000
def mIn (a b c : Int32) : Int32 := if a < b then 0 else (if c < a then 0 else 1)
def mLess (a b : Int32) : Int32 := if b ≤ a then b else a
theorem in_e {a b c : Int32} : dX4_in a b c = some (mIn a b c) := by
  unfold dX4_in mIn
  by_cases h : a < b
  · rw [if_pos h, if_pos h]
  · rw [if_neg h, if_neg h]
    by_cases h2 : c < a
    · rw [if_pos h2, if_pos h2]
    · rw [if_neg h2, if_neg h2]
theorem less_e {a b : Int32} : dX4_less a b = some (mLess a b) := by
  unfold dX4_less mLess
  by_cases h : b ≤ a
  · rw [if_pos h, if_pos h]
  · rw [if_neg h, if_neg h]
theorem min_less {a b : Int32} : wt_min a b = mLess a b := by
  unfold wt_min mLess
  by_cases h : b < a
  · rw [if_pos h, if_pos (by rw [i_le]; rw [i_lt] at h; omega)]
  · rw [if_neg h]
    by_cases h2 : b ≤ a
    · rw [if_pos h2]
      rw [i_le] at h2
      rw [i_lt] at h
      rw [i_eq]
      omega
    · rw [if_neg h2]
theorem less_min {a b : Int32} : mLess a b = mLess b a := by
  unfold mLess
  by_cases h : b ≤ a
  · rw [if_pos h]
    by_cases h2 : a ≤ b
    · rw [if_pos h2]
      rw [i_le] at h h2
      rw [i_eq]
      omega
    · rw [if_neg h2]
  · rw [if_neg h, if_pos (by rw [i_le] at h ⊢; omega)]
/-- an index -/
def Ix (a : Int32) (n : Nat) : Prop := ∃ k, k < n ∧ a = nI k
theorem Ix_of {k n : Nat} (h : k < n) : Ix (nI k) n := ⟨k, h, rfl⟩
theorem Ix_nI {k n : Nat} (hk : k < 2 ^ 31) (hn : n < 2 ^ 31) : Ix (nI k) n ↔ k < n := ⟨fun ⟨j, hj, e⟩ => by
  have := (nI_eq hk (by omega)).mp e
  omega, Ix_of⟩
theorem Ix_i {a : Int32} {n : Nat} (hn : n < 2 ^ 31) : Ix a n ↔ 0 ≤ a.toInt ∧ a.toInt < n := ⟨fun ⟨k, hk, e⟩ => by
  subst e
  rw [nI_toInt (by omega)]
  omega, fun ⟨h1, h2⟩ => by
  have h0 : ¬ a < 0 := by
    rw [i_lt, show (0 : Int32).toInt = 0 from by decide]
    omega
  obtain ⟨j, hj, e⟩ := nI_of h0
  subst e
  rw [nI_toInt hj] at h2
  exact Ix_of (by omega)⟩
theorem nI_m1 {n : Nat} (hn : n < 2 ^ 31) : (nI n - 1).toInt = (n : Int) - 1 := by
  rw [i_sub (by rw [nI_toInt hn, show (1 : Int32).toInt = 1 from by decide]; omega) (by rw [nI_toInt hn, show (1 : Int32).toInt = 1 from by decide]; omega), nI_toInt hn, show (1 : Int32).toInt = 1 from by decide]
theorem mIn_t {a lo hi : Int32} (h1 : lo.toInt ≤ a.toInt) (h2 : a.toInt ≤ hi.toInt) : mIn a lo hi = 1 := by
  unfold mIn
  rw [if_neg (by rw [i_lt]; omega), if_neg (by rw [i_lt]; omega)]
theorem mIn_f {a lo hi : Int32} (h : ¬ (lo.toInt ≤ a.toInt ∧ a.toInt ≤ hi.toInt)) : mIn a lo hi = 0 := by
  unfold mIn
  by_cases h1 : a < lo
  · rw [if_pos h1]
  · rw [if_neg h1, if_pos (by rw [i_lt] at h1 ⊢; omega)]
theorem mIn_01 (a lo hi : Int32) : mIn a lo hi = 0 ∨ mIn a lo hi = 1 := by
  by_cases h : lo.toInt ≤ a.toInt ∧ a.toInt ≤ hi.toInt
  · exact Or.inr (mIn_t h.1 h.2)
  · exact Or.inl (mIn_f h)
theorem in_t {a : Int32} {n : Nat} (h : Ix a n) (hn : n < 2 ^ 31) : mIn a 0 (nI n - 1) = 1 := by
  have h2 := (Ix_i hn).mp h
  refine mIn_t ?_ ?_
  · rw [show (0 : Int32).toInt = 0 from by decide]; exact h2.1
  · rw [nI_m1 hn]; omega
theorem in_f {a : Int32} {n : Nat} (h : ¬ Ix a n) (hn : n < 2 ^ 31) : mIn a 0 (nI n - 1) = 0 := by
  have h2 := fun z => h ((Ix_i hn).mpr z)
  refine mIn_f ?_
  rw [show (0 : Int32).toInt = 0 from by decide, nI_m1 hn]
  intro z
  exact h2 ⟨z.1, by omega⟩
/-- the same with the bound as it stands -/
theorem in_tL {a hi : Int32} {n : Nat} (e : hi = nI n - 1) (h : Ix a n) (hn : n < 2 ^ 31) : mIn a 0 hi = 1 := by subst e; exact in_t h hn
theorem in_fL {a hi : Int32} {n : Nat} (e : hi = nI n - 1) (h : ¬ Ix a n) (hn : n < 2 ^ 31) : mIn a 0 hi = 0 := by subst e; exact in_f h hn
theorem nrw {w : Int32} (h : w = 0 ∨ w = 1) : narrow .boolean (.int w) = Value.int w := by
  rcases h with h | h <;> subst h <;> rfl
theorem isStory_e {σ : MSt} {a : Int32} : dX4_isStory σ a = some (mIn a 0 (σ.1 24 - 1)) := by
  unfold dX4_isStory
  rw [in_e]
  show wt_ck _ _ = _
  rw [wt_ck_t (nrw (mIn_01 _ _ _))]
theorem isFind_e {σ : MSt} {a : Int32} : dX4_isFind σ a = some (mIn a 0 (σ.1 28 - 1)) := by
  unfold dX4_isFind
  rw [in_e]
  show wt_ck _ _ = _
  rw [wt_ck_t (nrw (mIn_01 _ _ _))]
theorem bad_0 {σ : MSt} {a : Int32} (h : σ.1 0 = 0) : dX4_bad σ 0 a = some (0, σ) := by
  unfold dX4_bad
  rw [if_pos rfl, wt_bd_s, if_pos h]
theorem bad_1 {σ : MSt} {a : Int32} (h : σ.1 0 = 0) (ha : a ≠ 0) : dX4_bad σ 1 a = some (1, m_sF σ 0 a) := by
  unfold dX4_bad
  rw [if_neg (by decide), if_pos h]
  show (if (m_sF σ 0 a).1 0 = 0 then _ else _) = _
  rw [if_neg (by rw [sF_1, if_pos rfl]; exact ha)]
theorem badPlace_0 {σ : MSt} {p s h a : Int32} (h0 : σ.1 0 = 0) (hp : Ix p 10) (hs : Ix s 10) (hh : Ix h 100) : dX4_badPlace σ p s h a = some (0, σ) := by
  unfold dX4_badPlace
  rw [in_e, wt_bd_s, in_tL (n := 10) (by decide) hp (by omega), if_neg (by decide), in_e, wt_bd_s, in_tL (n := 10) (by decide) hs (by omega), if_neg (by decide), in_e, wt_bd_s, in_tL (n := 100) (by decide) hh (by omega), if_neg (by decide), bad_0 h0, wt_bd_s, wt_ck_t nb0, wt_bd_s, rs_r]
theorem badPlace_1 {σ : MSt} {p s h a : Int32} (h0 : σ.1 0 = 0) (ha : a ≠ 0) (hb : ¬ (Ix p 10 ∧ Ix s 10 ∧ Ix h 100)) : dX4_badPlace σ p s h a = some (1, m_sF σ 0 a) := by
  unfold dX4_badPlace
  have key : ∀ x : Option (Unit ⊕ (Int32 × MSt)), x = some (.inl ()) → (wt_bd x fun w3 => wt_rs w3 (fun w3 => wt_bd (dX4_bad σ (1 : Int32) a) fun w17 => wt_ck (narrow .boolean (.int w17.1) = Value.int w17.1) <| some (w17.1, w17.2)) (fun z_ => some z_)) = some ((1 : Int32), m_sF σ 0 a) := by
    intro x hx
    rw [hx, wt_bd_s, rs_l, bad_1 h0 ha, wt_bd_s, wt_ck_t nb1]
  rw [in_e, wt_bd_s]
  apply key
  by_cases hp : Ix p 10
  · rw [in_tL (n := 10) (by decide) hp (by omega), if_neg (by decide), in_e, wt_bd_s]
    by_cases hs : Ix s 10
    · rw [in_tL (n := 10) (by decide) hs (by omega), if_neg (by decide), in_e, wt_bd_s, in_fL (n := 100) (by decide) (fun hh => hb ⟨hp, hs, hh⟩) (by omega), if_pos rfl]
    · rw [in_fL (n := 10) (by decide) hs (by omega), if_pos rfl]
  · rw [in_fL (n := 10) (by decide) hp (by omega), if_pos rfl]
theorem plain_e {σ : MSt} : dX4_plain σ = some (m_sF (m_sF (m_sF σ 41 (-1)) 42 (-1)) 45 (-1)) := rfl
theorem areTwo_e {a b p q : Int32} : dX4_areTwo a b p q = some (if (a = p ∧ b = q) ∨ (a = q ∧ b = p) then 1 else 0) := by
  unfold dX4_areTwo
  by_cases h1 : a = p <;> by_cases h2 : b = q <;> by_cases h3 : a = q <;> by_cases h4 : b = p <;> simp [h1, h2, h3, h4, wt_bd, wt_rs] <;> simp_all
