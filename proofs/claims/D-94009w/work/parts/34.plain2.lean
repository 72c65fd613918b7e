/-! THE PLAIN LAW, 5: ways to choose, factors, places of a great number: on natural numbers alone -/
set_option maxRecDepth 100000
def ch : Nat → Nat → Nat
  | _, 0 => 1
  | 0, _ + 1 => 0
  | n + 1, k + 1 => ch n k + ch n (k + 1)
theorem ch_0 (n : Nat) : ch n 0 = 1 := by cases n <;> rfl
theorem ch_s (n k : Nat) : ch (n + 1) (k + 1) = ch n k + ch n (k + 1) := rfl
theorem ch_big : ∀ n k, n < k → ch n k = 0 := by
  intro n
  induction n with
  | zero => intro k h; cases k with
    | zero => omega
    | succ k => rfl
  | succ n ih => intro k h; cases k with
    | zero => omega
    | succ k => rw [ch_s, ih k (by omega), ih (k + 1) (by omega)]
theorem ch_up : ∀ n k, ch (n + 1) (k + 1) * (k + 1) = (n + 1) * ch n k := by
  intro n
  induction n with
  | zero => intro k; cases k with
    | zero => rfl
    | succ k =>
      have h1 : ch (0 + 1) (k + 1 + 1) = 0 := ch_big _ _ (by omega)
      have h2 : ch 0 (k + 1) = 0 := ch_big _ _ (by omega)
      rw [h1, h2, Nat.zero_mul, Nat.mul_zero]
  | succ n ih => intro k; cases k with
    | zero =>
      have h := ih 0
      rw [ch_0] at h
      rw [ch_s, ch_0]
      omega
    | succ k =>
      have h1 := ih k
      have h2 := ih (k + 1)
      have e : ch (n + 1) (k + 1) = ch n k + ch n (k + 1) := ch_s n k
      rw [ch_s (n + 1) (k + 1), Nat.add_mul]
      have h3 : ch (n + 1) (k + 1) * (k + 1 + 1) = ch (n + 1) (k + 1) * (k + 1) + ch (n + 1) (k + 1) := Nat.mul_succ _ _
      have h4 : (n + 1 + 1) * ch (n + 1) (k + 1) = (n + 1) * ch (n + 1) (k + 1) + ch (n + 1) (k + 1) := Nat.succ_mul _ _
      have h5 : (n + 1) * ch (n + 1) (k + 1) = (n + 1) * ch n k + (n + 1) * ch n (k + 1) := by rw [e, Nat.mul_add]
      omega
theorem ch_on (n k : Nat) : ch n (k + 1) * (k + 1) = ch n k * (n - k) := by
  rcases Nat.lt_or_ge n k with h | h
  · rw [ch_big n k h, ch_big n (k + 1) (by omega), Nat.zero_mul, Nat.zero_mul]
  · have h1 := ch_up n k
    rw [ch_s, Nat.add_mul] at h1
    obtain ⟨d, rfl⟩ : ∃ d, n = k + d := ⟨n - k, by omega⟩
    have e : k + d - k = d := by omega
    rw [e]
    have h2 : (k + d + 1) * ch (k + d) k = ch (k + d) k * (k + 1) + ch (k + d) k * d := by
      rw [← Nat.mul_add, Nat.mul_comm]
      congr 1
      omega
    omega
theorem ch_pow : ∀ n k, ch n k ≤ 2 ^ n := by
  intro n
  induction n with
  | zero => intro k; cases k with
    | zero => exact Nat.le_refl _
    | succ k => exact Nat.zero_le _
  | succ n ih => intro k; cases k with
    | zero => rw [ch_0]; exact Nat.one_le_two_pow
    | succ k =>
      rw [ch_s, Nat.pow_succ]
      have h1 := ih k
      have h2 := ih (k + 1)
      omega
theorem ch_bin (a b : Nat) : ∀ n k, k ≤ n → ch n k * a ^ k * b ^ (n - k) ≤ (a + b) ^ n := by
  intro n
  induction n with
  | zero => intro k h; have : k = 0 := by omega
            subst this; exact Nat.le_refl _
  | succ n ih => intro k h; cases k with
    | zero =>
      simp only [ch_0, Nat.pow_zero, Nat.one_mul, Nat.sub_zero]
      exact Nat.pow_le_pow_left (by omega) _
    | succ k =>
      have hk : k ≤ n := by omega
      have e0 : n + 1 - (k + 1) = n - k := by omega
      rw [e0, ch_s, Nat.add_mul, Nat.add_mul, Nat.pow_succ (a + b) n, Nat.mul_add]
      have h1 : ch n k * a ^ (k + 1) * b ^ (n - k) ≤ (a + b) ^ n * a := by
        have := Nat.mul_le_mul_right a (ih k hk)
        have e : ch n k * a ^ (k + 1) * b ^ (n - k) = ch n k * a ^ k * b ^ (n - k) * a := by
          rw [Nat.pow_succ]
          simp only [Nat.mul_comm, Nat.mul_left_comm, Nat.mul_assoc]
        rw [e]; exact this
      have h2 : ch n (k + 1) * a ^ (k + 1) * b ^ (n - k) ≤ (a + b) ^ n * b := by
        rcases Nat.lt_or_ge k n with hlt | hge
        · have := Nat.mul_le_mul_right b (ih (k + 1) hlt)
          have e1 : n - k = (n - (k + 1)) + 1 := by omega
          have e : ch n (k + 1) * a ^ (k + 1) * b ^ (n - k) = ch n (k + 1) * a ^ (k + 1) * b ^ (n - (k + 1)) * b := by
            rw [e1, Nat.pow_succ b]
            simp only [Nat.mul_comm, Nat.mul_left_comm, Nat.mul_assoc]
          rw [e]; exact this
        · rw [ch_big n (k + 1) (by omega), Nat.zero_mul, Nat.zero_mul]
          exact Nat.zero_le _
      exact Nat.add_le_add h1 h2
/-- what a find of k among n pieces brings, times 16^n; t of 16 are taken -/
def fct (n k t : Nat) : Nat := if k ≤ n then ch n k * t ^ k * (16 - t) ^ (n - k) else 0
theorem fct_le {n k t : Nat} (ht : t ≤ 16) : fct n k t ≤ 16 ^ n := by
  unfold fct
  by_cases h : k ≤ n
  · rw [if_pos h]
    have := ch_bin t (16 - t) n k h
    rw [show t + (16 - t) = 16 from by omega] at this
    exact this
  · rw [if_neg h]; exact Nat.zero_le _
/-- the ways, and the first j factors -/
def pre (n k t j : Nat) : Nat := if j ≤ k then t ^ j else t ^ k * (16 - t) ^ (j - k)
theorem pre_0 (n k t : Nat) : pre n k t 0 = 1 := by unfold pre; rw [if_pos (Nat.zero_le _)]; rfl
theorem pre_s (n k t j : Nat) : pre n k t (j + 1) = pre n k t j * (if k ≤ j then 16 - t else t) := by
  unfold pre
  by_cases h : k ≤ j
  · rw [if_pos h, if_neg (by omega)]
    by_cases h2 : j ≤ k
    · have : j = k := by omega
      subst this
      rw [if_pos (Nat.le_refl _), show j + 1 - j = 1 from by omega, Nat.pow_one]
    · rw [if_neg h2, show j + 1 - k = (j - k) + 1 from by omega, Nat.pow_succ, Nat.mul_assoc]
  · rw [if_neg h, if_pos (by omega), if_pos (by omega), Nat.pow_succ]
theorem pre_n {n k t : Nat} (h : k ≤ n) : ch n k * pre n k t n = fct n k t := by
  unfold pre fct
  rw [if_pos h]
  by_cases h2 : n ≤ k
  · have : n = k := by omega
    subst this
    rw [if_pos (Nat.le_refl _), Nat.sub_self, Nat.pow_zero, Nat.mul_one]
  · rw [if_neg h2, Nat.mul_assoc]
theorem pre_le {n k t j : Nat} (ht : t ≤ 16) : pre n k t j ≤ 16 ^ j := by
  induction j with
  | zero => rw [pre_0]; exact Nat.le_refl _
  | succ j ih =>
    rw [pre_s, Nat.pow_succ]
    refine Nat.mul_le_mul ih ?_
    split <;> omega
/-! places -/
def dg (N k : Nat) : Nat := N / 10000 ^ k % 10000
theorem dg_lt (N k : Nat) : dg N k < 10000 := Nat.mod_lt _ (by omega)
theorem dg_mod (N k : Nat) : N % 10000 ^ (k + 1) = N % 10000 ^ k + 10000 ^ k * dg N k := by
  rw [Nat.pow_succ]; exact Nat.mod_mul
/-- times c: what stands at a place with what is carried -/
theorem tm_n (N c k : Nat) : dg N k * c + N % 10000 ^ k * c / 10000 ^ k = N % 10000 ^ (k + 1) * c / 10000 ^ k := by
  rw [dg_mod, Nat.add_mul, Nat.mul_assoc, Nat.add_mul_div_left _ _ (Nat.pow_pos (by omega))]
  omega
theorem tm_c (N c k : Nat) : N % 10000 ^ (k + 1) * c / 10000 ^ k / 10000 = N % 10000 ^ (k + 1) * c / 10000 ^ (k + 1) := by
  rw [Nat.div_div_eq_div_mul, ← Nat.pow_succ]
theorem tm_d (N c k : Nat) : N % 10000 ^ (k + 1) * c / 10000 ^ k % 10000 = dg (N * c) k := by
  unfold dg
  have h : N * c = N % 10000 ^ (k + 1) * c + 10000 ^ k * (10000 * (N / 10000 ^ (k + 1) * c)) := by
    have h1 := Nat.mod_add_div N (10000 ^ (k + 1))
    have h2 : 10000 ^ k * (10000 * (N / 10000 ^ (k + 1) * c)) = 10000 ^ (k + 1) * (N / 10000 ^ (k + 1)) * c := by
      rw [Nat.pow_succ]
      simp only [Nat.mul_assoc]
    rw [h2, ← Nat.add_mul, h1]
  rw [h, Nat.add_mul_div_left _ _ (Nat.pow_pos (by omega)), Nat.add_mul_mod_self_left]
theorem tm_le (N c k : Nat) : N % 10000 ^ k * c / 10000 ^ k ≤ c := by
  have h := Nat.mod_lt N (show 0 < 10000 ^ k from Nat.pow_pos (by omega))
  refine Nat.div_le_of_le_mul ?_
  exact Nat.mul_le_mul_right c (Nat.le_of_lt h)
/-- by v -/
theorem dv_n (N v k : Nat) : (N / 10000 ^ (k + 1) % v * 10000 + dg N k) % v = N / 10000 ^ k % v := by
  have h : N / 10000 ^ k = N / 10000 ^ (k + 1) * 10000 + dg N k := by
    unfold dg
    rw [Nat.pow_succ, ← Nat.div_div_eq_div_mul]
    exact (Nat.div_add_mod' _ _).symm
  rw [h, Nat.add_mod, Nat.mod_mul_mod, ← Nat.add_mod]
theorem dv_d (N : Nat) {v : Nat} (hv : 0 < v) (k : Nat) : (N / 10000 ^ (k + 1) % v * 10000 + dg N k) / v = dg (N / v) k := by
  have h : N / 10000 ^ k = N / 10000 ^ (k + 1) * 10000 + dg N k := by
    unfold dg
    rw [Nat.pow_succ, ← Nat.div_div_eq_div_mul]
    exact (Nat.div_add_mod' _ _).symm
  have h2 : dg (N / v) k = N / 10000 ^ k / v % 10000 := by
    unfold dg
    rw [Nat.div_div_eq_div_mul, Nat.mul_comm, ← Nat.div_div_eq_div_mul]
  have h3 : N / 10000 ^ k = v * (10000 * (N / 10000 ^ (k + 1) / v)) + (N / 10000 ^ (k + 1) % v * 10000 + dg N k) := by
    have h4 := Nat.div_add_mod (N / 10000 ^ (k + 1)) v
    have h5 : v * (10000 * (N / 10000 ^ (k + 1) / v)) = v * (N / 10000 ^ (k + 1) / v) * 10000 := by
      rw [Nat.mul_left_comm, Nat.mul_comm]
    rw [h5, ← Nat.add_assoc, ← Nat.add_mul, h4]
    exact h
  have h6 : (N / 10000 ^ (k + 1) % v * 10000 + dg N k) / v < 10000 := by
    rw [Nat.div_lt_iff_lt_mul hv]
    have h7 := Nat.mod_lt (N / 10000 ^ (k + 1)) hv
    have h8 := dg_lt N k
    have h9 : (N / 10000 ^ (k + 1) % v + 1) * 10000 ≤ v * 10000 := Nat.mul_le_mul_right 10000 h7
    omega
  rw [h2, h3, Nat.mul_add_div hv, Nat.mul_add_mod, Nat.mod_eq_of_lt h6]
theorem dg_eq {N M n : Nat} (hN : N < 10000 ^ n) (hM : M < 10000 ^ n) (h : ∀ k, k < n → dg N k = dg M k) : N = M := by
  have key : ∀ k, k ≤ n → N % 10000 ^ k = M % 10000 ^ k := by
    intro k
    induction k with
    | zero => intro _; rw [Nat.pow_zero, Nat.mod_one, Nat.mod_one]
    | succ k ih => intro hk; rw [dg_mod, dg_mod, ih (by omega), h k (by omega)]
  have := key n (Nat.le_refl _)
  rw [Nat.mod_eq_of_lt hN, Nat.mod_eq_of_lt hM] at this
  exact this
theorem dg_top {N n k : Nat} (hN : N < 10000 ^ n) (hk : n ≤ k) : dg N k = 0 := by
  unfold dg
  rw [Nat.div_eq_of_lt (Nat.lt_of_lt_of_le hN (Nat.pow_le_pow_right (by omega) hk))]
/-- two numbers that agree above a place: the place decides -/
theorem dg_cmp {N M n k : Nat} (hN : N < 10000 ^ n) (hM : M < 10000 ^ n) (h : ∀ j, k < j → j < n → dg N j = dg M j) (hk : k < n) (hd : dg N k < dg M k) : N < M := by
  have key : ∀ i, k + 1 + i ≤ n → ∀ P Q : Nat, P % 10000 ^ (k + 1) < Q % 10000 ^ (k + 1) → (∀ j, k < j → j < k + 1 + i → dg P j = dg Q j) → P % 10000 ^ (k + 1 + i) < Q % 10000 ^ (k + 1 + i) := by
    intro i
    induction i with
    | zero => intro _ P Q h0 _; exact h0
    | succ i ih =>
      intro hi P Q h0 h1
      have h2 := ih (by omega) P Q h0 fun j a b => h1 j a (by omega)
      have e : k + 1 + (i + 1) = (k + 1 + i) + 1 := by omega
      rw [e, dg_mod, dg_mod, h1 (k + 1 + i) (by omega) (by omega)]
      omega
  have h0 : N % 10000 ^ (k + 1) < M % 10000 ^ (k + 1) := by
    rw [dg_mod, dg_mod]
    have h1 := Nat.mod_lt N (show 0 < 10000 ^ k from Nat.pow_pos (by omega))
    have h2 : 10000 ^ k * (dg N k + 1) ≤ 10000 ^ k * dg M k := Nat.mul_le_mul_left _ hd
    rw [Nat.mul_succ] at h2
    omega
  have h1 := key (n - (k + 1)) (by omega) N M h0 (fun j a b => h j a (by omega))
  rw [show k + 1 + (n - (k + 1)) = n from by omega, Nat.mod_eq_of_lt hN, Nat.mod_eq_of_lt hM] at h1
  exact h1
theorem big_330 : 16 ^ 1000 < 10000 ^ 330 := by decide +kernel
theorem big_310 : 16 ^ 1000 < 10000 ^ 310 := by decide +kernel
theorem p16 {a b : Nat} (h : a ≤ b) : 16 ^ a ≤ 16 ^ b := Nat.pow_le_pow_right (by omega) h
/-- the number of all finds that are chosen, and its scale -/
def nNum (pl mn : Nat → Nat) (t : Nat) (sel : Nat → Bool) : Nat → Nat
  | 0 => 1
  | f + 1 => if sel f = true then nNum pl mn t sel f * fct (pl f) (mn f) t else nNum pl mn t sel f
def nScl (pl : Nat → Nat) (sel : Nat → Bool) : Nat → Nat
  | 0 => 0
  | f + 1 => if sel f = true then nScl pl sel f + pl f else nScl pl sel f
theorem nScl_s {pl : Nat → Nat} {sel : Nat → Bool} {f : Nat} : nScl pl sel (f + 1) = if sel f = true then nScl pl sel f + pl f else nScl pl sel f := rfl
theorem nNum_s {pl mn : Nat → Nat} {t : Nat} {sel : Nat → Bool} {f : Nat} : nNum pl mn t sel (f + 1) = if sel f = true then nNum pl mn t sel f * fct (pl f) (mn f) t else nNum pl mn t sel f := rfl
theorem p256 {n : Nat} (h : n ≤ 256) : n ≤ 16 ^ 2 := by
  have : (16 : Nat) ^ 2 = 256 := by decide
  omega
theorem nScl_le {pl : Nat → Nat} {sel : Nat → Bool} (hp : ∀ f, pl f ≤ 60) : ∀ n, nScl pl sel n ≤ 60 * n := by
  intro n
  induction n with
  | zero => exact Nat.le_refl _
  | succ n ih =>
    rw [nScl_s]
    have := hp n
    split <;> omega
theorem nNum_le {pl mn : Nat → Nat} {t : Nat} {sel : Nat → Bool} (ht : t ≤ 16) : ∀ n, nNum pl mn t sel n ≤ 16 ^ nScl pl sel n := by
  intro n
  induction n with
  | zero => exact Nat.le_refl _
  | succ n ih =>
    rw [nScl_s, nNum_s]
    by_cases c : sel n = true
    · rw [if_pos c, if_pos c, Nat.pow_add]
      exact Nat.mul_le_mul ih (fct_le ht)
    · rw [if_neg c, if_neg c]
      exact ih
/-- the greatest m up to 10^6 with h m ≤ g, as both search for it: low, high -/
def wth (g h : Nat) : Nat → Nat → Nat → Nat
  | 0, low, _ => low
  | n + 1, low, high => if high ≤ low then low else (if h * ((low + high + 1) / 2) ≤ g then wth g h n ((low + high + 1) / 2) high else wth g h n low ((low + high + 1) / 2 - 1))
theorem wth_in {g h : Nat} : ∀ n low high, low ≤ high → low ≤ wth g h n low high ∧ wth g h n low high ≤ high := by
  intro n
  induction n with
  | zero => intro low high hl; exact ⟨Nat.le_refl _, hl⟩
  | succ n ih =>
    intro low high hl
    unfold wth
    by_cases c : high ≤ low
    · rw [if_pos c]; exact ⟨Nat.le_refl _, hl⟩
    · rw [if_neg c]
      split
      · have := ih ((low + high + 1) / 2) high (by omega)
        omega
      · have := ih low ((low + high + 1) / 2 - 1) (by omega)
        omega
/-! THE PLAIN LAW, 6: the model's great numbers -/
set_option maxRecDepth 100000
def Bg (f : Nat → Int32) (N : Nat) : Prop := N < 10000 ^ 330 ∧ ∀ k, k < 330 → f k = nI (dg N k)
def mB (b : Nat) (σ σ' : MSt) : Prop := σ'.1 = σ.1 ∧ σ'.2.1 = σ.2.1 ∧ ∀ k i, ¬ (k = 48 ∧ i = b) → σ'.2.2 k i = σ.2.2 k i
theorem mB.rfl {b : Nat} {σ : MSt} : mB b σ σ := ⟨Eq.refl _, Eq.refl _, fun _ _ _ => Eq.refl _⟩
theorem mB.trans {b : Nat} {x y z : MSt} (h : mB b x y) (h' : mB b y z) : mB b x z := ⟨h'.1.trans h.1, h'.2.1.trans h.2.1, fun k i hk => (h'.2.2 k i hk).trans (h.2.2 k i hk)⟩
theorem mB_sG {b j : Nat} {σ s : MSt} {v : Int32} (h : mB b σ s) : mB b σ (m_sG s 48 b j v) := ⟨h.1, h.2.1, fun k i hk => by
  refine Eq.trans (funext fun d => ?_) (h.2.2 k i hk)
  rw [sG_3, if_neg (fun z => hk ⟨z.1, z.2.1⟩)]⟩
theorem sG_at {σ : MSt} {k i j d : Nat} {v : Int32} : (m_sG σ k i j v).2.2 k i d = if d = j then v else σ.2.2 k i d := by
  rw [sG_3]; simp
theorem sG_at' {σ : MSt} {k i j b d : Nat} {v : Int32} : (m_sG σ k i j v).2.2 k b d = if b = i ∧ d = j then v else σ.2.2 k b d := by
  rw [sG_3]; simp
theorem l10k : (10000 : Int64) = lN 10000 := rfl
theorem mtimes {σ : MSt} {b c N : Nat} (hb : b < 3) (hc : c ≤ 1000000) (hB : Bg (σ.2.2 48 b) N) (hN : N * c < 10000 ^ 330) : wp (dX4_times σ (nI b) (nI c)) (fun σ' => mB b σ σ' ∧ Bg (σ'.2.2 48 b) (N * c)) := by
  unfold dX4_times
  rw [wp_bd]
  refine wp_for 330 0 (fun k v => ∃ s, v = (lN (N % 10000 ^ k * c / 10000 ^ k), nI k, s) ∧ mB b σ s ∧ (∀ j, j < k → s.2.2 48 b j = nI (dg (N * c) j)) ∧ (∀ j, k ≤ j → j < 330 → s.2.2 48 b j = nI (dg N j))) (by omega) ⟨σ, ?_, mB.rfl, fun j hj => by omega, fun j _ hj => hB.2 j hj⟩ ?_ ?_
  · rw [Nat.pow_zero, Nat.mod_one, Nat.zero_mul]; rfl
  · rintro k w hk ⟨s, rfl, hs, h1, h2⟩
    unfold bX4_times_1
    have hg : ¬ 330 ≤ k := by omega
    have hr : s.2.2 48 b k = nI (dg N k) := h2 k (Nat.le_refl _) hk
    have hd := dg_lt N k
    have hn : Int32.toInt64 (nI (dg N k)) * Int32.toInt64 (nI c) + lN (N % 10000 ^ k * c / 10000 ^ k) = lN (N % 10000 ^ (k + 1) * c / 10000 ^ k) := by
      rw [nI_l (by omega), nI_l (by omega), lN_mul, lN_add, tm_n]
    have hnb : N % 10000 ^ (k + 1) * c / 10000 ^ k < 2 ^ 63 := by
      rw [← tm_n]
      have a1 : dg N k * c ≤ 9999 * 1000000 := Nat.mul_le_mul (by omega) hc
      have a2 := tm_le N c k
      omega
    have hm : Int64.toInt32 (lN (N % 10000 ^ (k + 1) * c / 10000 ^ k) - lN (N % 10000 ^ (k + 1) * c / 10000 ^ k) / (10000 : Int64) * (10000 : Int64)) = nI (dg (N * c) k) := by
      rw [l10k, pk_lRem hnb (by omega) (by omega), lN_i, tm_d]
    have hq : lN (N % 10000 ^ (k + 1) * c / 10000 ^ k) / (10000 : Int64) = lN (N % 10000 ^ (k + 1) * c / 10000 ^ (k + 1)) := by
      rw [l10k, pk_lDiv hnb (by omega) (by omega), tm_c]
    simp (disch := omega) only [wp_ite, wp_lt, wp_ck, wp_some, q_330, nI_leI, hg, if_false, vp_nI, hb, hk, true_and, nI_clamp, hr, hn, hm, hq, nI_1, lpo_l]
    refine ⟨_, rfl, mB_sG hs, fun j hj => ?_, fun j hj hj2 => ?_⟩
    · rw [sG_at]
      by_cases c : j = k
      · rw [if_pos c, c, ← hq]; exact hm
      · rw [if_neg c]; exact h1 j (by omega)
    · rw [sG_at, if_neg (by omega)]
      exact h2 j (by omega) hj2
  · rintro w ⟨s, rfl, hs, h1, h2⟩
    unfold bX4_times_1
    simp (disch := omega) only [wp_ite, wp_some, q_330, nI_leI, Nat.le_refl, if_true, lpo_r]
    exact ⟨hs, hN, h1⟩
theorem mparts {σ : MSt} {b c N : Nat} (hb : b < 3) (h0 : 0 < c) (hc : c ≤ 60) (hB : Bg (σ.2.2 48 b) N) : wp (dX4_parts σ (nI b) (nI c)) (fun σ' => mB b σ σ' ∧ Bg (σ'.2.2 48 b) (N / c)) := by
  unfold dX4_parts
  rw [wp_bd]
  refine wp_loop (fun m v => m ≤ 330 ∧ ∃ s, v = (nI (N / 10000 ^ m % c), nI m + (-1), s) ∧ mB b σ s ∧ (∀ j, j < m → s.2.2 48 b j = nI (dg N j)) ∧ (∀ j, m ≤ j → j < 330 → s.2.2 48 b j = nI (dg (N / c) j))) ?_ 330 _ ⟨Nat.le_refl _, σ, ?_, mB.rfl, fun j hj => hB.2 j hj, fun j h h' => by omega⟩
  · rintro m w ⟨hm, s, rfl, hs, h1, h2⟩
    unfold bX4_parts_1
    cases m with
    | zero =>
      have hz : nI 0 + (-1) < 0 := by decide
      simp only [wp_ite, hz, if_true, wp_some, lpo_r]
      refine ⟨hs, ?_, fun k hk => h2 k (Nat.zero_le _) hk⟩
      exact Nat.lt_of_le_of_lt (Nat.div_le_self _ _) hB.1
    | succ k =>
      have hk : k < 330 := by omega
      have hr : s.2.2 48 b k = nI (dg N k) := h1 k (by omega)
      have hd := dg_lt N k
      have hv := Nat.mod_lt (N / 10000 ^ (k + 1)) h0
      have hneg : (nI k < 0) = False := nI_neg0 (by omega)
      have hc0 : (nI c = 0) = False := eq_false (nI_ne0 h0 (by omega))
      have hn : nI (N / 10000 ^ (k + 1) % c) * (10000 : Int32) + nI (dg N k) = nI (N / 10000 ^ (k + 1) % c * 10000 + dg N k) := by
        rw [il_mul2, nI_add]
      have hq : nI (N / 10000 ^ (k + 1) % c * 10000 + dg N k) / nI c = nI (dg (N / c) k) := by
        rw [pk_div (by omega) h0 (by omega), dv_d N h0]
      have hm2 : nI (N / 10000 ^ (k + 1) % c * 10000 + dg N k) - nI (dg (N / c) k) * nI c = nI (N / 10000 ^ k % c) := by
        rw [← hq, pk_rem (by omega) h0 (by omega), dv_n]
      simp (disch := omega) only [wp_ite, wp_lt, wp_ck, wp_some, pk_m1, hneg, if_false, vp_nI, hb, hk, true_and, nI_clamp, hr, hn, hc0, not_false_iff, hq, hm2, lpo_l]
      refine ⟨k, by omega, by omega, _, rfl, mB_sG hs, fun j hj => ?_, fun j hj hj2 => ?_⟩
      · rw [sG_at, if_neg (by omega)]
        exact h1 j (by omega)
      · rw [sG_at]
        by_cases c : j = k
        · rw [if_pos c, c]
        · rw [if_neg c]; exact h2 j (by omega) hj2
  · rw [Nat.div_eq_of_lt hB.1, Nat.zero_mod]; rfl
def cmpI (N M : Nat) : Int32 := if N < M then -1 else (if M < N then 1 else 0)
theorem mcompare {σ : MSt} {a b N M : Nat} (ha : a < 3) (hb : b < 3) (hN : Bg (σ.2.2 48 a) N) (hM : Bg (σ.2.2 48 b) M) : dX4_compare σ (nI a) (nI b) = some (cmpI N M) := by
  apply wp_eq
  unfold dX4_compare
  rw [wp_bd]
  refine wp_loop (fun m v => m ≤ 330 ∧ v = nI m + (-1) ∧ (∀ j, m ≤ j → j < 330 → dg N j = dg M j)) ?_ 330 _ ⟨Nat.le_refl _, rfl, fun j h h' => by omega⟩
  rintro m w ⟨hm, rfl, h⟩
  unfold bX4_compare_1
  cases m with
  | zero =>
    have hz : nI 0 + (-1) < 0 := by decide
    have e : N = M := dg_eq hN.1 hM.1 fun k hk => h k (Nat.zero_le _) hk
    simp only [wp_ite, hz, if_true, wp_some, lpo_r, rs_l]
    unfold cmpI
    rw [if_neg (by omega), if_neg (by omega)]
  | succ k =>
    have hk : k < 330 := by omega
    have hneg : (nI k < 0) = False := nI_neg0 (by omega)
    have h1 := dg_lt N k
    have h2 := dg_lt M k
    simp (disch := omega) only [wp_ite, wp_lt, wp_ck, wp_some, pk_m1, hneg, if_false, vp_nI, ha, hb, hk, true_and, nI_clamp, hN.2 k hk, hM.2 k hk, nI_eq, nI_leI, lpo_l, lpo_r, rs_r]
    by_cases c : dg N k = dg M k
    · rw [if_pos c]
      refine ⟨k, by omega, by omega, rfl, fun j hj hj2 => ?_⟩
      by_cases c2 : j = k
      · rw [c2]; exact c
      · exact h j (by omega) hj2
    · rw [if_neg c]
      have hup : ∀ j, k < j → j < 330 → dg N j = dg M j := fun j hj hj2 => h j (by omega) hj2
      unfold cmpI
      by_cases c2 : dg N k ≤ dg M k
      · rw [if_pos c2, if_pos (dg_cmp hN.1 hM.1 hup hk (by omega))]
      · have hlt := dg_cmp hM.1 hN.1 (fun j a b => (hup j a b).symm) hk (by omega)
        rw [if_neg c2, if_neg (by omega), if_pos hlt]
theorem dg_0 (k : Nat) : dg 0 k = 0 := by unfold dg; rw [Nat.zero_div]
theorem mnothing {σ : MSt} {a N : Nat} (ha : a < 3) (hN : Bg (σ.2.2 48 a) N) : dX4_isNothing σ (nI a) = some (if N = 0 then 1 else 0) := by
  apply wp_eq
  unfold dX4_isNothing
  rw [wp_bd]
  refine wp_for 330 0 (fun k v => v = nI k ∧ ∀ j, j < k → dg N j = 0) (by omega) ⟨rfl, fun j hj => by omega⟩ ?_ ?_
  · rintro k w hk ⟨rfl, h⟩
    unfold bX4_isNothing_1
    have hg : ¬ 330 ≤ k := by omega
    have h1 := dg_lt N k
    simp (disch := omega) only [wp_ite, wp_lt, wp_ck, wp_some, q_330, nI_leI, hg, if_false, vp_nI, ha, hk, true_and, nI_clamp, hN.2 k hk, z_eq, lpo_l, lpo_r, rs_r, nI_1]
    by_cases c : dg N k = 0
    · rw [if_pos c]
      intro j hj
      by_cases c2 : j = k
      · rw [c2]; exact c
      · exact h j (by omega)
    · rw [if_neg c]
      have : N ≠ 0 := fun z => c (by rw [z]; exact dg_0 k)
      rw [if_neg this]
  · rintro w ⟨rfl, h⟩
    unfold bX4_isNothing_1
    simp (disch := omega) only [wp_ite, wp_some, q_330, nI_leI, Nat.le_refl, if_true, lpo_r, rs_l]
    have e : N = 0 := dg_eq hN.1 (Nat.pow_pos (by omega)) fun k hk => (h k hk).trans (dg_0 k).symm
    rw [if_pos e]
theorem mB.row {b i : Nat} {σ σ' : MSt} (h : mB b σ σ') (hi : i ≠ b) : σ'.2.2 48 i = σ.2.2 48 i := h.2.2 48 i fun z => hi z.2
/-- a frame of the great numbers and the scale -/
def mG (σ σ' : MSt) : Prop := mE [49] [] [48] σ σ'
theorem mB.G {b : Nat} {σ σ' : MSt} (h : mB b σ σ') : mE [49] [] [48] σ σ' := ⟨fun k _ => by rw [h.1], fun k _ => by rw [h.2.1], fun k hk => funext fun i => h.2.2 k i fun z => hk (by rw [z.1]; simp)⟩
theorem mlevels1 {σ : MSt} {N n : Nat} (hn : n ≤ 480) (hB : Bg (σ.2.2 48 0) N) (hN : N ≤ 16 ^ 480) : wp (wt_whC (bX4_levels_1 (nI n)) ((0 : Int32), σ)) (fun σ' => mB 0 σ σ' ∧ Bg (σ'.2.2 48 0) (N * 16 ^ n)) := by
  refine wp_for n 0 (fun k v => ∃ s, v = (nI k, s) ∧ mB 0 σ s ∧ Bg (s.2.2 48 0) (N * 16 ^ k)) (by omega) ⟨σ, rfl, mB.rfl, by rw [Nat.pow_zero, Nat.mul_one]; exact hB⟩ ?_ ?_
  · rintro k w hk ⟨s, rfl, hs, hb⟩
    unfold bX4_levels_1
    have hg : ¬ n ≤ k := by omega
    have hbd : N * 16 ^ k * 16 < 10000 ^ 330 := by
      rw [Nat.mul_assoc, ← Nat.pow_succ]
      refine Nat.lt_of_le_of_lt (Nat.mul_le_mul hN (p16 (show k + 1 ≤ 480 by omega))) ?_
      rw [← Nat.pow_add]
      exact Nat.lt_of_le_of_lt (p16 (by omega)) big_330
    simp (disch := omega) only [wp_ite, nI_leI, hg, if_false]
    refine wp_ap (mtimes (b := 0) (c := 16) (by omega) (by omega) hb hbd) fun s2 hs2 => ?_
    simp only [wp_lt, wp_some, lpo_l, nI_1]
    exact ⟨_, rfl, hs.trans hs2.1, by rw [Nat.pow_succ, ← Nat.mul_assoc]; exact hs2.2⟩
  · rintro w ⟨s, rfl, hs, hb⟩
    unfold bX4_levels_1
    simp (disch := omega) only [wp_ite, nI_leI, Nat.le_refl, if_true, wp_some, lpo_r]
    exact ⟨hs, hb⟩
theorem mlevels2 {σ : MSt} {N n : Nat} (hn : n ≤ 480) (hB : Bg (σ.2.2 48 1) N) (hN : N ≤ 16 ^ 480) : wp (wt_whC (bX4_levels_2 (nI n)) ((0 : Int32), σ)) (fun σ' => mB 1 σ σ' ∧ Bg (σ'.2.2 48 1) (N * 16 ^ n)) := by
  refine wp_for n 0 (fun k v => ∃ s, v = (nI k, s) ∧ mB 1 σ s ∧ Bg (s.2.2 48 1) (N * 16 ^ k)) (by omega) ⟨σ, rfl, mB.rfl, by rw [Nat.pow_zero, Nat.mul_one]; exact hB⟩ ?_ ?_
  · rintro k w hk ⟨s, rfl, hs, hb⟩
    unfold bX4_levels_2
    have hg : ¬ n ≤ k := by omega
    have hbd : N * 16 ^ k * 16 < 10000 ^ 330 := by
      rw [Nat.mul_assoc, ← Nat.pow_succ]
      refine Nat.lt_of_le_of_lt (Nat.mul_le_mul hN (p16 (show k + 1 ≤ 480 by omega))) ?_
      rw [← Nat.pow_add]
      exact Nat.lt_of_le_of_lt (p16 (by omega)) big_330
    simp (disch := omega) only [wp_ite, nI_leI, hg, if_false]
    refine wp_ap (mtimes (b := 1) (c := 16) (by omega) (by omega) hb hbd) fun s2 hs2 => ?_
    simp only [wp_lt, wp_some, lpo_l, nI_1]
    exact ⟨_, rfl, hs.trans hs2.1, by rw [Nat.pow_succ, ← Nat.mul_assoc]; exact hs2.2⟩
  · rintro w ⟨s, rfl, hs, hb⟩
    unfold bX4_levels_2
    simp (disch := omega) only [wp_ite, nI_leI, Nat.le_refl, if_true, wp_some, lpo_r]
    exact ⟨hs, hb⟩
theorem mlevels {σ : MSt} {N M n m : Nat} (hn : n ≤ 480) (hm : m ≤ 480) (hB : Bg (σ.2.2 48 0) N) (hC : Bg (σ.2.2 48 1) M) (hN : N ≤ 16 ^ n) (hM : M ≤ 16 ^ m) : wp (dX4_levels σ (nI n) (nI m)) (fun σ' => mE [49] [] [48] σ σ' ∧ σ'.1 = σ.1 ∧ Bg (σ'.2.2 48 0) (N * 16 ^ m) ∧ Bg (σ'.2.2 48 1) (M * 16 ^ n)) := by
  unfold dX4_levels
  refine wp_ap (mlevels1 hm hB (Nat.le_trans hN (p16 hn))) fun s1 h1 => ?_
  refine wp_ap (mlevels2 hn (by rw [h1.1.row (by omega)]; exact hC) (Nat.le_trans hM (p16 hm))) fun s2 h2 => ?_
  rw [wp_some]
  exact ⟨h1.1.G.trans h2.1.G, h2.1.1.trans h1.1.1, by rw [h2.1.row (by omega)]; exact h1.2, h2.2⟩
def wNow (N M : Nat) : Nat := if N = 0 then 0 else (if M = 0 then 1000000 else wth N M 1000000 0 1000000)
theorem mcopy {σ : MSt} : wp (wt_whC bX4_worthNow_2 ((0 : Int32), σ)) (fun σ' => mB 2 σ σ' ∧ ∀ j, j < 330 → σ'.2.2 48 2 j = σ.2.2 48 1 j) := by
  refine wp_for 330 0 (fun k v => ∃ s, v = (nI k, s) ∧ mB 2 σ s ∧ ∀ j, j < k → s.2.2 48 2 j = σ.2.2 48 1 j) (by omega) ⟨σ, rfl, mB.rfl, fun j hj => by omega⟩ ?_ ?_
  · rintro k w hk ⟨s, rfl, hs, h⟩
    unfold bX4_worthNow_2
    have hg : ¬ 330 ≤ k := by omega
    simp (disch := omega) only [wp_ite, wp_lt, wp_ck, wp_some, q_330, nI_leI, hg, if_false, vp_nI, vp_1, vp_2, c_1, c_2, hk, true_and, nI_clamp, nI_1, lpo_l, Nat.reduceLT]
    refine ⟨_, rfl, mB_sG hs, fun j hj => ?_⟩
    rw [sG_at]
    by_cases c : j = k
    · rw [if_pos c, c, hs.row (by omega)]
    · rw [if_neg c]; exact h j (by omega)
  · rintro w ⟨s, rfl, hs, h⟩
    unfold bX4_worthNow_2
    simp (disch := omega) only [wp_ite, wp_some, q_330, nI_leI, Nat.le_refl, if_true, lpo_r]
    exact ⟨hs, h⟩
theorem cmpI_neg {N M : Nat} : (cmpI N M < 0) = (N < M) := propext (by
  unfold cmpI
  by_cases h : N < M
  · rw [if_pos h]; exact ⟨fun _ => h, fun _ => by decide⟩
  · rw [if_neg h]
    by_cases h2 : M < N
    · rw [if_pos h2]; exact ⟨fun z => absurd z (by decide), fun z => absurd z h⟩
    · rw [if_neg h2]; exact ⟨fun z => absurd z (by decide), fun z => absurd z h⟩)
theorem mworth {σ : MSt} {N M : Nat} (hB : Bg (σ.2.2 48 0) N) (hC : Bg (σ.2.2 48 1) M) (hM : M ≤ 16 ^ 960) : wp (dX4_worthNow σ) (fun r => r.1 = nI (wNow N M) ∧ mE [49] [] [48] σ r.2 ∧ r.2.1 = σ.1) := by
  unfold dX4_worthNow wNow
  rw [show (0 : Int32) = nI 0 from rfl, mnothing (by omega) hB, wt_bd_s]
  by_cases c0 : N = 0
  · rw [if_pos c0, if_pos c0, wp_ite, if_neg (by decide), wp_some]
    exact ⟨rfl, mE.rfl, rfl⟩
  · rw [if_neg c0, if_neg c0, wp_ite, if_pos (by decide), show (1 : Int32) = nI 1 from rfl, mnothing (by omega) hC, wt_bd_s]
    by_cases c1 : M = 0
    · rw [if_pos c1, if_pos c1, wp_ite, if_neg (by decide), wp_some]
      exact ⟨rfl, mE.rfl, rfl⟩
    · rw [if_neg c1, if_neg c1, wp_ite, if_pos (by decide)]
      have key : wp (wt_whC bX4_worthNow_1 (nI 0, (1000000 : Int32), σ)) (fun w => w.1 = nI (wth N M 1000000 0 1000000) ∧ mB 2 σ w.2) := by
        refine wp_loop (fun m v => ∃ low high s, v = (nI low, nI high, s) ∧ low ≤ high ∧ high ≤ 1000000 ∧ high ≤ low + m ∧ mB 2 σ s ∧ wth N M m low high = wth N M 1000000 0 1000000) ?_ 1000000 _ ⟨0, 1000000, σ, rfl, by omega, by omega, by omega, mB.rfl, rfl⟩
        rintro m w ⟨low, high, s, rfl, hl, hh, hm, hs, e⟩
        unfold bX4_worthNow_1
        by_cases c : high ≤ low
        · simp (disch := omega) only [wp_ite, nI_leI, c, if_true, wp_some, lpo_r]
          refine ⟨?_, hs⟩
          rw [← e]
          cases m with
          | zero => rfl
          | succ m => unfold wth; rw [if_pos c]
        · cases m with
          | zero => omega
          | succ m =>
            have em : (nI low + nI high + 1) / 2 = nI ((low + high + 1) / 2) := by
              rw [nI_add, nI_1]
              exact pk_div (d := 2) (by omega) (by omega) (by omega)
            have hu : wth N M (m + 1) low high = if M * ((low + high + 1) / 2) ≤ N then wth N M m ((low + high + 1) / 2) high else wth N M m low ((low + high + 1) / 2 - 1) := by
              show (if high ≤ low then low else _) = _
              rw [if_neg c]
            rw [hu] at e
            simp (disch := omega) only [wp_ite, nI_leI, c, if_false, wp_lt, em]
            refine wp_ap mcopy fun s2 h2 => ?_
            have hb2 : Bg (s2.2.2 48 2) M := ⟨hC.1, fun k hk => by rw [h2.2 k hk, hs.row (by omega)]; exact hC.2 k hk⟩
            have hbd : M * ((low + high + 1) / 2) < 10000 ^ 330 := by
              have h5 : (low + high + 1) / 2 ≤ 16 ^ 5 := by
                have : (16 : Nat) ^ 5 = 1048576 := by decide
                omega
              refine Nat.lt_of_le_of_lt (Nat.mul_le_mul hM h5) ?_
              rw [← Nat.pow_add]
              exact Nat.lt_of_le_of_lt (p16 (by omega)) big_330
            refine wp_ap (mtimes (b := 2) (by omega) (by omega) hb2 hbd) fun s3 h3 => ?_
            have hm3 : mB 2 σ s3 := (hs.trans h2.1).trans h3.1
            have hb3 : Bg (s3.2.2 48 0) N := by rw [hm3.row (by omega)]; exact hB
            rw [show (dX4_compare s3 (0 : Int32) (2 : Int32)) = some (cmpI N (M * ((low + high + 1) / 2))) from mcompare (a := 0) (b := 2) (by omega) (by omega) hb3 h3.2, wt_bd_s]
            by_cases c2 : M * ((low + high + 1) / 2) ≤ N
            · rw [if_pos c2] at e
              rw [wp_ite, if_neg (by rw [cmpI_neg]; omega), wp_some, lpo_l]
              exact ⟨m, by omega, _, _, _, rfl, by omega, hh, by omega, hm3, e⟩
            · rw [if_neg c2] at e
              rw [wp_ite, if_pos (by rw [cmpI_neg]; omega), wp_lt, wp_some, lpo_l]
              refine ⟨m, by omega, low, (low + high + 1) / 2 - 1, s3, ?_, by omega, by omega, by omega, hm3, e⟩
              rw [show nI ((low + high + 1) / 2) - 1 = nI ((low + high + 1) / 2 - 1) from nI_sub1 (by omega)]
      refine wp_ap key fun w hw => ?_
      rw [wp_some]
      exact ⟨hw.1, hw.2.G, hw.2.1⟩
/-! decimal digits -/
def tp (N : Nat) : Nat → Nat
  | 0 => 0
  | k + 1 => if dg N k = 0 then tp N k else k
def dcnt (d : Nat) : Nat := if 999 < d then 4 else (if 99 < d then 3 else (if 9 < d then 2 else 1))
def nd (N : Nat) : Nat := 4 * tp N 330 + dcnt (dg N (tp N 330))
theorem tp_le (N : Nat) : ∀ n, tp N n ≤ n - 1 := by
  intro n
  induction n with
  | zero => exact Nat.le_refl _
  | succ n ih =>
    show (if _ then _ else _) ≤ _
    split <;> omega
theorem tp_eq {N n k : Nat} (hk : k < n) (h : k = 0 ∨ dg N k ≠ 0) (h2 : ∀ j, k < j → j < n → dg N j = 0) : tp N n = k := by
  induction n with
  | zero => omega
  | succ n ih =>
    show (if _ then _ else _) = _
    by_cases c : k = n
    · subst c
      rcases h with h | h
      · subst h
        split
        · rfl
        · rfl
      · rw [if_neg h]
    · rw [if_pos (h2 n (by omega) (by omega))]
      exact ih (by omega) fun j a b => h2 j a (by omega)
theorem nd_le (N : Nat) : 1 ≤ nd N ∧ nd N ≤ 1320 := by
  have := tp_le N 330
  unfold nd dcnt
  split
  · omega
  · split
    · omega
    · split <;> omega
theorem mdigits {σ : MSt} {N : Nat} (hB : Bg (σ.2.2 48 0) N) : dX4_digitsNow σ = some (nI (nd N)) := by
  apply wp_eq
  unfold dX4_digitsNow
  have key : wp (wt_whC (bX4_digitsNow_1 σ) (329 : Int32)) (fun w => w = nI (tp N 330)) := by
    refine wp_loop (fun m v => m < 330 ∧ v = nI m ∧ ∀ j, m < j → j < 330 → dg N j = 0) ?_ 329 _ ⟨by omega, rfl, fun j a b => by omega⟩
    rintro m w ⟨hm, rfl, h⟩
    unfold bX4_digitsNow_1
    by_cases c : m = 0
    · subst c
      rw [wp_ite, if_pos (by decide), wp_some, lpo_r, tp_eq (by omega) (Or.inl rfl) h]
    · have hn : ¬ m ≤ 0 := by omega
      have hd := dg_lt N m
      simp (disch := omega) only [wp_ite, z_le, hn, if_false, wp_ck, vp_0, vp_nI, c_0, nI_clamp, hm, true_and, hB.2 m hm, z_eq, Nat.reduceLT]
      by_cases c2 : dg N m = 0
      · rw [if_pos c2, wp_lt, wp_some, lpo_l]
        refine ⟨m - 1, by omega, by omega, ?_, fun j a b => ?_⟩
        · obtain ⟨q, rfl⟩ : ∃ q, m = q + 1 := ⟨m - 1, by omega⟩
          exact pk_m1 q
        · by_cases c3 : j = m
          · rw [c3]; exact c2
          · exact h j (by omega) b
      · rw [if_neg c2, wp_some, lpo_r, tp_eq hm (Or.inr c2) h]
  refine wp_ap key fun w hw => ?_
  subst hw
  have ht := tp_le N 330
  have hd := dg_lt N (tp N 330)
  have hnd : nd N ≤ 4 * 330 + 4 := by
    unfold nd dcnt
    (repeat' split) <;> omega
  rw [wp_lt, il_mul, nI_1, vp_0, wt_ck_t (by omega), wt_ck_t (by rw [vp_nI (by omega)]; omega), wp_lt, c_0, nI_clamp (by omega), hB.2 (tp N 330) (by omega), il_div (by omega) (by omega) (by omega), wp_bd]
  simp only [wp_some]
  refine wp_loop (fun m v => ∃ n, v = (nI n, nI m) ∧ m < 1000 ∧ n < 10000 ∧ n + (if 99 < m then 3 else (if 9 < m then 2 else (if 0 < m then 1 else 0))) = nd N) ?_ (dg N (tp N 330) / 10) _ ⟨4 * tp N 330 + 1, rfl, by omega, by omega, ?_⟩
  · rintro m w ⟨n, rfl, hm, hn, e⟩
    unfold bX4_digitsNow_2
    dsimp only
    by_cases c : m = 0
    · subst c
      rw [wp_ite, if_pos (by decide), wp_some, lpo_r]
      exact congrArg nI e
    · have hz : ¬ m ≤ 0 := by omega
      rw [wp_ite, if_neg (by rw [z_le (by omega)]; exact hz), wp_lt, wp_lt, wp_some, lpo_l, nI_1, il_div (by omega) (by omega) (by omega)]
      refine ⟨m / 10, by omega, n + 1, rfl, by omega, by omega, ?_⟩
      rw [← e]
      (repeat' split) <;> omega
  · unfold nd dcnt
    (repeat' split) <;> omega
def dig (N k : Nat) : Nat := dg N (k / 4) / 10 ^ (k % 4) % 10
/-! THE PLAIN LAW, 8: the component's heap: reads, writes, what stays; lists -/
set_option maxRecDepth 100000
theorem hgI_of {τ : HP} {a c k : Nat} {cs : List Nat} {fs : List Value} {v : Int32} (h : τ.1 a = some (.inr (c, fs))) (hc : cs.contains c = true) (hf : fs[k]? = some (.int v)) : hgI τ a cs k = some v := by
  unfold hgI hg
  rw [h]
  show (match (if cs.contains c = true then fs[k]? else none) with | some (Value.int v) => some v | _ => none) = _
  rw [if_pos hc, hf]
theorem hgA_of {τ : HP} {a c k q : Nat} {cs : List Nat} {fs : List Value} (h : τ.1 a = some (.inr (c, fs))) (hc : cs.contains c = true) (hf : fs[k]? = some (.ref q)) : hgA τ a cs k = some q := by
  unfold hgA hg
  rw [h]
  show (match (if cs.contains c = true then fs[k]? else none) with | some (Value.ref q) => some q | _ => none) = _
  rw [if_pos hc, hf]
theorem hgR_of {τ : HP} {a c k q : Nat} {cs : List Nat} {fs : List Value} (h : τ.1 a = some (.inr (c, fs))) (hc : cs.contains c = true) (hf : fs[k]? = some (.ref q)) : hgR τ a cs k = some (some q) := by
  unfold hgR hg
  rw [h]
  show (match (if cs.contains c = true then fs[k]? else none) with | some (Value.ref q) => some (some q) | some Value.null => some none | _ => none) = _
  rw [if_pos hc, hf]
theorem hgR_nul {τ : HP} {a c k : Nat} {cs : List Nat} {fs : List Value} (h : τ.1 a = some (.inr (c, fs))) (hc : cs.contains c = true) (hf : fs[k]? = some .null) : hgR τ a cs k = some none := by
  unfold hgR hg
  rw [h]
  show (match (if cs.contains c = true then fs[k]? else none) with | some (Value.ref q) => some (some q) | some Value.null => some none | _ => none) = _
  rw [if_pos hc, hf]
theorem hp_of {τ : HP} {a c k : Nat} {cs : List Nat} {fs : List Value} {v : Value} (h : τ.1 a = some (.inr (c, fs))) (hc : cs.contains c = true) (h16 : c ≠ 16) (hk : k < fs.length) : hp τ a cs k v = some (hst τ a (.inr (c, fs.set k v))) := by
  unfold hp
  rw [h]
  show (if (cs.contains c = true ∧ c ≠ 16) ∧ k < fs.length then _ else _) = _
  rw [if_pos ⟨⟨hc, h16⟩, hk⟩]
theorem haI_of {τ : HP} {a t n : Nat} {f : Nat → Int32} (h : τ.1 a = some (.inl (t, n, .inl f))) : haI τ a t = some (n, f) := by
  unfold haI
  rw [h]
  show (if t = t then _ else _) = _
  rw [if_pos rfl]
theorem haL_of {τ : HP} {a t n : Nat} {f : Nat → Int64} (h : τ.1 a = some (.inl (t, n, .inr (.inl f)))) : haL τ a t = some (n, f) := by
  unfold haL
  rw [h]
  show (if t = t then _ else _) = _
  rw [if_pos rfl]
theorem haR_of {τ : HP} {a t n : Nat} {f : Nat → Option Nat} (h : τ.1 a = some (.inl (t, n, .inr (.inr (.inr (.inr f)))))) : haR τ a t = some (n, f) := by
  unfold haR
  rw [h]
  show (if t = t then _ else _) = _
  rw [if_pos rfl]
theorem hln_of {τ : HP} {a t n : Nat} {x : (Nat → Int32) ⊕ (Nat → Int64) ⊕ (Nat → UInt32) ⊕ (Nat → UInt64) ⊕ (Nat → Option Nat)} (h : τ.1 a = some (.inl (t, n, x))) : hln τ a t = some n := by
  unfold hln
  rw [h]
  show (if t = t then _ else _) = _
  rw [if_pos rfl]
theorem hcl_of {τ : HP} {a c : Nat} {fs : List Value} (h : τ.1 a = some (.inr (c, fs))) : hcl τ a = some c := by
  unfold hcl
  rw [h]
theorem hst_eq {τ : HP} {a : Nat} {x : HC} : (hst τ a x).1 a = some x := if_pos rfl
theorem hst_ne {τ : HP} {a q : Nat} {x : HC} (h : q ≠ a) : (hst τ a x).1 q = τ.1 q := if_neg h
theorem hst_2 {τ : HP} {a : Nat} {x : HC} : (hst τ a x).2 = τ.2 := rfl
theorem hst_self {τ : HP} {a : Nat} {x : HC} (h : τ.1 a = some x) : hst τ a x = τ := Prod.ext (funext fun q => by
  show (if q = a then some x else τ.1 q) = _
  by_cases c : q = a
  · rw [if_pos c, c, h]
  · rw [if_neg c]) rfl
theorem hst_hst {τ : HP} {a : Nat} {x y : HC} : hst (hst τ a x) a y = hst τ a y := Prod.ext (funext fun q => by
  show (if q = a then some y else (if q = a then some x else τ.1 q)) = (if q = a then some y else τ.1 q)
  by_cases c : q = a
  · rw [if_pos c, if_pos c]
  · rw [if_neg c, if_neg c, if_neg c]) rfl
theorem hnew_eq {τ : HP} {x : HC} : (hnew τ x).1 τ.2 = some x := if_pos rfl
theorem hnew_ne {τ : HP} {q : Nat} {x : HC} (h : q ≠ τ.2) : (hnew τ x).1 q = τ.1 q := if_neg h
theorem hnew_2 {τ : HP} {x : HC} : (hnew τ x).2 = τ.2 + 1 := rfl
/-- every cell lies under the next new address -/
def Wf (τ : HP) : Prop := ∀ q x, τ.1 q = some x → q < τ.2
theorem Wf.st {τ : HP} {a : Nat} {x y : HC} (h : Wf τ) (ha : τ.1 a = some y) : Wf (hst τ a x) := fun q z hz => by
  by_cases c : q = a
  · rw [c]; exact h a y ha
  · rw [hst_ne c] at hz; exact h q z hz
theorem Wf.new {τ : HP} {x : HC} (h : Wf τ) : Wf (hnew τ x) := fun q z hz => by
  show q < τ.2 + 1
  by_cases c : q = τ.2
  · omega
  · rw [hnew_ne c] at hz
    have := h q z hz
    omega
/-- a frame: from τ to τ' nothing that was there has changed but at W -/
def Fr (W : List Nat) (τ τ' : HP) : Prop := (Wf τ → Wf τ') ∧ τ.2 ≤ τ'.2 ∧ ∀ q, q < τ.2 → q ∉ W → τ'.1 q = τ.1 q
theorem Fr.rfl {W : List Nat} {τ : HP} : Fr W τ τ := ⟨id, Nat.le_refl _, fun _ _ _ => Eq.refl _⟩
theorem Fr.trans {W : List Nat} {x y z : HP} (h : Fr W x y) (h' : Fr W y z) : Fr W x z := ⟨fun w => h'.1 (h.1 w), Nat.le_trans h.2.1 h'.2.1, fun q hq hW => (h'.2.2 q (Nat.lt_of_lt_of_le hq h.2.1) hW).trans (h.2.2 q hq hW)⟩
theorem Fr.then {W V : List Nat} {x y z : HP} (h : Fr W x y) (h' : Fr V y z) (hV : ∀ q, q ∈ V → q ∈ W ∨ x.2 ≤ q) : Fr W x z := ⟨fun w => h'.1 (h.1 w), Nat.le_trans h.2.1 h'.2.1, fun q hq hW => (h'.2.2 q (Nat.lt_of_lt_of_le hq h.2.1) fun z => (hV q z).elim hW fun z => by omega).trans (h.2.2 q hq hW)⟩
theorem Fr.wide {W V : List Nat} {x y : HP} (h : Fr W x y) (hW : ∀ q, q ∈ W → q ∈ V) : Fr V x y := ⟨h.1, h.2.1, fun q hq hV => h.2.2 q hq fun z => hV (hW q z)⟩
/-- the written cells were not there yet -/
theorem Fr.fresh {W V : List Nat} {x y : HP} (h : Fr W x y) (hW : ∀ q, q ∈ W → q ∈ V ∨ x.2 ≤ q) : Fr V x y := ⟨h.1, h.2.1, fun q hq hV => h.2.2 q hq fun z => (hW q z).elim hV (fun z => by omega)⟩
theorem Fr.st {W : List Nat} {τ : HP} {a : Nat} {x y : HC} (ha : τ.1 a = some y) (hW : a ∈ W) : Fr W τ (hst τ a x) := ⟨fun h => h.st ha, Nat.le_refl _, fun _ _ hq => hst_ne fun z => hq (z ▸ hW)⟩
theorem Fr.new {W : List Nat} {τ : HP} {x : HC} : Fr W τ (hnew τ x) := ⟨fun h => h.new, Nat.le_succ _, fun _ hq _ => hnew_ne (Nat.ne_of_lt hq)⟩
theorem Fr.at {W : List Nat} {τ τ' : HP} {q : Nat} {x : HC} (h : Fr W τ τ') (hf : Wf τ) (hx : τ.1 q = some x) (hq : q ∉ W) : τ'.1 q = some x := (h.2.2 q (hf q x hx) hq).trans hx
theorem hcl_st {τ : HP} {a c q : Nat} {fs gs : List Value} (h : τ.1 a = some (.inr (c, fs))) : hcl (hst τ a (.inr (c, gs))) q = hcl τ q := by
  by_cases e : q = a
  · subst e
    rw [hcl_of h, hcl_of hst_eq]
  · unfold hcl
    rw [hst_ne e]
theorem hcl_Fr {W : List Nat} {τ τ' : HP} {q c : Nat} (h : Fr W τ τ') (hf : Wf τ) (hx : hcl τ q = some c) (hq : q ∉ W) : hcl τ' q = some c := by
  obtain ⟨fs, e⟩ := hcl_o hx
  exact hcl_of (h.at hf e hq)
/-! lists: LA τ l d es: the list at l, its row at d, holds the addresses es -/
def LA (τ : HP) (l d : Nat) (es : List Nat) : Prop := ∃ mc cap f, τ.1 l = some (.inr (13, [.int mc, .ref d, .int (nI es.length)])) ∧ τ.1 d = some (.inl (2, cap, .inr (.inr (.inr (.inr f))))) ∧ es.length ≤ cap ∧ 0 < cap ∧ cap ≤ 32 ∧ ∀ i e, es[i]? = some e → f i = some e
theorem LA.len {τ : HP} {l d : Nat} {es : List Nat} (h : LA τ l d es) : es.length ≤ 32 := by
  obtain ⟨_, _, _, _, _, h1, _, h2, _⟩ := h
  omega
theorem LA.cl {τ : HP} {l d : Nat} {es : List Nat} (h : LA τ l d es) : hcl τ l = some 13 := by
  obtain ⟨_, _, _, h1, _⟩ := h
  exact hcl_of h1
theorem LA.ne {τ : HP} {l d : Nat} {es : List Nat} (h : LA τ l d es) : l ≠ d := by
  obtain ⟨_, _, _, h1, h2, _⟩ := h
  intro e
  rw [e, h2] at h1
  cases h1
theorem LA.keep {W : List Nat} {τ τ' : HP} {l d : Nat} {es : List Nat} (h : LA τ l d es) (hF : Fr W τ τ') (hf : Wf τ) (hl : l ∉ W) (hd : d ∉ W) : LA τ' l d es := by
  obtain ⟨mc, cap, f, h1, h2, h3⟩ := h
  exact ⟨mc, cap, f, hF.at hf h1 hl, hF.at hf h2 hd, h3⟩
theorem jsize {τ : HP} {l d : Nat} {es : List Nat} (h : LA τ l d es) : eJ2_size τ l = some (nI es.length) := by
  obtain ⟨mc, cap, f, h1, h2, h3⟩ := h
  unfold eJ2_size
  rw [hgI_of (cs := [13]) (k := 2) h1 rfl rfl, wt_bd_s]
theorem jempty {τ : HP} {l d : Nat} {es : List Nat} (h : LA τ l d es) : eJ2_isEmpty τ l = some (if es.length = 0 then 1 else 0) := by
  have hl := h.len
  obtain ⟨mc, cap, f, h1, h2, h3⟩ := h
  unfold eJ2_isEmpty
  rw [hgI_of (cs := [13]) (k := 2) h1 rfl rfl, wt_bd_s]
  by_cases c : es.length = 0
  · rw [if_pos c, if_pos (by rw [c]; exact nI_0)]
  · rw [if_neg c, if_neg (nI_ne0 (by omega) (by omega))]
theorem jcheck {k n : Nat} (h : k < n) (hn : n < 2 ^ 31) : eJ17_checkIndex (nI k) (nI n) = some (nI k) := by
  unfold eJ17_checkIndex eJ14_checkIndex
  rw [if_neg (nI_pos (by omega)), if_pos (nI_lt h hn), wt_bd_s, rs_r, wt_bd_s]
theorem jdata {τ : HP} {l d k e : Nat} {es : List Nat} (h : LA τ l d es) (hk : es[k]? = some e) : eJ2_elementData τ l (nI k) = some e := by
  have hlt : k < es.length := by
    rcases Nat.lt_or_ge k es.length with c | c
    · exact c
    · rw [List.getElem?_eq_none c] at hk; cases hk
  obtain ⟨mc, cap, f, h1, h2, h3, h4, h5, h6⟩ := h
  unfold eJ2_elementData
  rw [hgA_of (cs := [13]) (k := 1) h1 rfl rfl, wt_bd_s, haR_of h2, wt_bd_s, wt_ck_t (by rw [vp_nI (by omega)]; show k < cap; omega)]
  show wt_bd (f (nI k).toNatClampNeg) _ = _
  rw [nI_clamp (by omega), h6 k e hk, wt_bd_s]
theorem jget {τ : HP} {l d k e : Nat} {es : List Nat} (h : LA τ l d es) (hk : es[k]? = some e) : eJ2_get τ l (nI k) = some e := by
  have hlt : k < es.length := by
    rcases Nat.lt_or_ge k es.length with c | c
    · exact c
    · rw [List.getElem?_eq_none c] at hk; cases hk
  have hl := h.len
  have hcl' := h.cl
  have hd := jdata h hk
  obtain ⟨mc, cap, f, h1, h2, h3⟩ := h
  unfold eJ2_get
  rw [hgI_of (cs := [13]) (k := 2) h1 rfl rfl, wt_bd_s, jcheck hlt (by omega), wt_bd_s, wt_ck_t hcl', hd, wt_bd_s]
/-- the elements are objects that a list may hold -/
def Ob (τ : HP) (es : List Nat) : Prop := ∀ e, e ∈ es → ∃ c, hcl τ e = some c ∧ hob c = true
theorem jnewlen {n : Nat} (h0 : 0 < n) (hn : n ≤ 20) : eJ11_newLength (nI n) (nI (n + 1) - nI n) (nI n >>> ((1 : Int32) &&& 31)) = some (nI (n + (if n / 2 ≤ 1 then 1 else n / 2))) := by
  have e1 : nI (n + 1) - nI n = nI 1 := by rw [pk_sub (by omega)]; exact congrArg nI (by omega)
  have e2 : nI n >>> ((1 : Int32) &&& 31) = nI (n / 2) := by
    rw [pk_shrN (by omega) _ 1 (by decide)]
  unfold eJ11_newLength
  rw [e1, e2]
  have e3 : nI n + wt_max (nI 1) (nI (n / 2)) = nI (n + (if n / 2 ≤ 1 then 1 else n / 2)) := by
    unfold wt_max
    by_cases c : n / 2 ≤ 1
    · rw [if_pos c, if_neg (nI_nlt c (by omega)), nI_add]
    · rw [if_neg c, if_pos (nI_lt (by omega) (by omega)), nI_add]
  rw [e3]
  generalize hm : n + (if n / 2 ≤ 1 then 1 else n / 2) = m
  have hm2 : n < m ∧ m ≤ 30 := by
    rw [← hm]
    split <;> omega
  show wt_bd (if nI m ≤ (0 : Int32) then _ else _) _ = _
  rw [if_neg (nI_nle (by omega) (by omega)), if_neg (by rw [i_lt, nI_toInt (by omega), show (2147483639 : Int32).toInt = 2147483639 from by decide]; omega), wt_bd_s, rs_r]
theorem jcopy {τ : HP} {d n m : Nat} {f : Nat → Option Nat} (hf : Wf τ) (h : τ.1 d = some (.inl (2, n, .inr (.inr (.inr (.inr f)))))) (hn : n ≤ m) (hm : m ≤ 32) (hel : ∀ i, i < n → ∀ y, f i = some y → ∃ c, hcl τ y = some c ∧ hob c = true) : eJ13_copyOf_2 τ d (nI m) = some (τ.2, hst (hnew τ (.inl (2, m, .inr (.inr (.inr (.inr (fun _ => none))))))) τ.2 (.inl (2, m, .inr (.inr (.inr (.inr (va_cpy f (fun _ => none) 0 0 n))))))) := by
  have hd := hf d _ h
  have g2 : (hnew τ (.inl (2, m, .inr (.inr (.inr (.inr (fun _ => none))))))).1 d = some (.inl (2, n, .inr (.inr (.inr (.inr f))))) := (hnew_ne (by omega)).trans h
  have hmin : wt_min (Int32.ofNat n) (nI m) = nI n := by
    unfold wt_min
    show (if nI m < nI n then nI m else nI n) = nI n
    rw [if_neg (nI_nlt hn (by omega))]
  have z0 : (0 : Int32).toNatClampNeg = 0 := by decide
  have zn : ¬ (0 : Int32) < 0 := by decide
  unfold eJ13_copyOf_2
  rw [hln_of h, wt_bd_s]
  unfold eJ13_copyOf_3
  rw [nI_clamp (by omega), wt_ck_t ⟨nI_pos (by omega), hm⟩]
  show wt_bd (wt_bd (hln (hnew τ (.inl (2, m, .inr (.inr (.inr (.inr (fun _ => none))))))) d 2) _) _ = _
  rw [hln_of g2, wt_bd_s, haR_of g2, wt_bd_s, haR_of hnew_eq, wt_bd_s, hmin, z0, nI_clamp (by omega), wt_ck_t ⟨zn, zn, nI_pos (by omega), by show _ ≤ n; omega, by show _ ≤ m; omega⟩, wt_ck_t (by
    intro i hi y hy
    have hy2 : f i = some y := by
      rw [← hy]
      show f i = f (0 + i)
      rw [Nat.zero_add]
    obtain ⟨c, hc, hb⟩ := hel i hi y hy2
    obtain ⟨fs, e⟩ := hcl_o hc
    have hy3 := hf y _ e
    exact ⟨c, hcl_of ((hnew_ne (by omega)).trans e), hb⟩)]
  rfl
theorem jadd {τ : HP} {l d x cx : Nat} {es : List Nat} (hf : Wf τ) (h : LA τ l d es) (hlen : es.length ≤ 20) (hO : Ob τ es) (hx : hcl τ x = some cx) (hcx : hob cx = true) : wp (eJ2_add τ l x) (fun r => r.1 = 1 ∧ ∃ d', LA r.2 l d' (es ++ [x]) ∧ (d' = d ∨ d' = τ.2) ∧ Fr [l, d] τ r.2 ∧ r.2.2 ≤ τ.2 + 1) := by
  have hld := h.ne
  obtain ⟨mc, cap, f, h1, h2, h3, h4, h5, h6⟩ := h
  unfold eJ2_add
  rw [hgI_of (cs := [13]) (k := 0) h1 rfl rfl, wt_bd_s, hp_of (cs := [13]) (k := 0) h1 rfl (by omega) (by simp), List.set_cons_zero, wt_bd_s]
  show wp (wt_bd (hgA (hst τ l (.inr (13, [.int (mc + 1), .ref d, .int (nI es.length)]))) l [13] 1) _) _
  have g1 : (hst τ l (.inr (13, [.int (mc + 1), .ref d, .int (nI es.length)]))).1 l = some (.inr (13, [.int (mc + 1), .ref d, .int (nI es.length)])) := hst_eq
  have g2 : (hst τ l (.inr (13, [.int (mc + 1), .ref d, .int (nI es.length)]))).1 d = some (.inl (2, cap, .inr (.inr (.inr (.inr f))))) := (hst_ne (Ne.symm hld)).trans h2
  have gc : ∀ q, hcl (hst τ l (.inr (13, [.int (mc + 1), .ref d, .int (nI es.length)]))) q = hcl τ q := fun q => hcl_st h1
  have gF : Fr [l, d] τ (hst τ l (.inr (13, [.int (mc + 1), .ref d, .int (nI es.length)]))) := Fr.st h1 (by simp)
  have gw := hf.st (x := .inr (13, [.int (mc + 1), .ref d, .int (nI es.length)])) h1
  have gs : (hst τ l (.inr (13, [.int (mc + 1), .ref d, .int (nI es.length)]))).2 = τ.2 := rfl
  generalize hst τ l (.inr (13, [.int (mc + 1), .ref d, .int (nI es.length)])) = τ3 at g1 g2 gc gF gw gs
  rw [hgA_of (cs := [13]) (k := 1) g1 rfl rfl, wt_bd_s, hgI_of (cs := [13]) (k := 2) g1 rfl rfl, wt_bd_s, wt_ck_t (hcl_of g1)]
  have key : wp (eJ2_add_2 τ3 l x d (nI es.length)) (fun r => ∃ d', LA r l d' (es ++ [x]) ∧ (d' = d ∨ d' = τ.2) ∧ Fr [l, d] τ r ∧ r.2 ≤ τ.2 + 1) := by
    unfold eJ2_add_2
    rw [hln_of g2, wt_bd_s]
    have fin : ∀ (s : HP) (d' cap' : Nat) (f' : Nat → Option Nat), s.1 l = some (.inr (13, [.int (mc + 1), .ref d', .int (nI es.length)])) → s.1 d' = some (.inl (2, cap', .inr (.inr (.inr (.inr f'))))) → es.length < cap' → cap' ≤ 32 → (∀ i e, es[i]? = some e → f' i = some e) → hcl s x = some cx → (d' = d ∨ d' = τ.2) → Fr [l, d] τ s → s.2 ≤ τ.2 + 1 → l ≠ d' → wp (wt_bd (haR s d' 2) fun z11 => wt_ck (vp_in (nI es.length) z11.1) <| wt_bd (hcl s x) fun c14 => wt_ck (hob c14 = true) <| wt_lt (hst s d' (.inl (2, z11.1, .inr (.inr (.inr (.inr (va_up z11.2 (nI es.length).toNatClampNeg (some x)))))))) fun τ17 => wt_bd (hp τ17 l [13] 2 (.int ((nI es.length + (1 : Int32))))) fun τ18 => some (τ18)) (fun r => ∃ d', LA r l d' (es ++ [x]) ∧ (d' = d ∨ d' = τ.2) ∧ Fr [l, d] τ r ∧ r.2 ≤ τ.2 + 1) := by
      intro s d' cap' f' k1 k2 k3 k4 k5 k6 k7 k8 k9 k10
      rw [haR_of k2, wt_bd_s, wt_ck_t (by rw [vp_nI (by omega)]; exact k3), k6, wt_bd_s, wt_ck_t hcx]
      show wp (wt_bd (hp (hst s d' (.inl (2, cap', .inr (.inr (.inr (.inr (va_up f' (nI es.length).toNatClampNeg (some x)))))))) l [13] 2 (.int (nI es.length + 1))) _) _
      have j1 : (hst s d' (.inl (2, cap', .inr (.inr (.inr (.inr (va_up f' (nI es.length).toNatClampNeg (some x)))))))).1 l = some (.inr (13, [.int (mc + 1), .ref d', .int (nI es.length)])) := (hst_ne k10).trans k1
      rw [hp_of (cs := [13]) (k := 2) j1 rfl (by omega) (by simp), wt_bd_s, wp_some]
      have hd' : d' ∈ [l, d] ∨ τ.2 ≤ d' := by
        rcases k7 with e | e
        · left; rw [e]; simp
        · right; omega
      refine ⟨d', ⟨mc + 1, cap', va_up f' (nI es.length).toNatClampNeg (some x), ?_, ?_, ?_, by omega, k4, ?_⟩, k7, ?_, k9⟩
      · rw [hst_eq, nI_1, List.length_append]
        rfl
      · rw [hst_ne (Ne.symm k10), hst_eq]
      · rw [List.length_append]; exact k3
      · intro i e he
        rw [nI_clamp (by omega)]
        rcases Nat.lt_or_ge i es.length with c | c
        · rw [va_up_ne _ _ (by omega)]
          rw [List.getElem?_append_left c] at he
          exact k5 i e he
        · rw [List.getElem?_append_right c] at he
          have hi : i - es.length = 0 := by
            rcases Nat.eq_zero_or_pos (i - es.length) with z | z
            · exact z
            · rw [List.getElem?_eq_none (by show 1 ≤ _; omega)] at he; cases he
          rw [hi] at he
          have hi2 : i = es.length := by omega
          rw [hi2, va_up_self]
          exact he
      · refine k8.then (V := [d', l]) ((Fr.st k2 (by simp)).trans (Fr.st j1 (by simp))) fun q hq => ?_
        rcases List.mem_cons.mp hq with e | e
        · rw [e]; exact hd'
        · left
          have : q = l := by simpa using e
          rw [this]; simp
    by_cases c : es.length = cap
    · rw [if_pos (by rw [c]; rfl), wt_ck_t (hcl_of g1)]
      have hgrow : eJ2_grow τ3 l = some (τ3.2, hst (hst (hnew τ3 (.inl (2, cap + (if cap / 2 ≤ 1 then 1 else cap / 2), .inr (.inr (.inr (.inr (fun _ => none))))))) τ3.2 (.inl (2, cap + (if cap / 2 ≤ 1 then 1 else cap / 2), .inr (.inr (.inr (.inr (va_cpy f (fun _ => none) 0 0 cap))))))) l (.inr (13, [.int (mc + 1), .ref τ3.2, .int (nI es.length)]))) := by
        have hel : ∀ i, i < cap → ∀ y, f i = some y → ∃ c, hcl τ3 y = some c ∧ hob c = true := by
          intro i hi y hy
          have hi2 : i < es.length := by omega
          have e1 := h6 i (es[i]) (List.getElem?_eq_getElem hi2)
          rw [e1] at hy
          cases hy
          rw [gc]
          exact hO _ (List.getElem_mem hi2)
        have hm : cap ≤ cap + (if cap / 2 ≤ 1 then 1 else cap / 2) ∧ cap + (if cap / 2 ≤ 1 then 1 else cap / 2) ≤ 32 := by split <;> omega
        unfold eJ2_grow
        rw [hgI_of (cs := [13]) (k := 2) g1 rfl rfl, wt_bd_s, wt_ck_t (hcl_of g1)]
        unfold eJ2_grow_2
        rw [hgA_of (cs := [13]) (k := 1) g1 rfl rfl, wt_bd_s, hln_of g2, wt_bd_s]
        show wt_bd (if 0 < nI cap then (wt_bd (eJ11_newLength (nI cap) (nI es.length + 1 - nI cap) (nI cap >>> ((1 : Int32) &&& 31))) fun w7 => _) else _) _ = _
        rw [if_pos (by rw [show (0 : Int32) = nI 0 from rfl]; exact nI_lt h4 (by omega)), nI_1, c, jnewlen h4 (by omega), wt_bd_s, wt_bd_s, jcopy gw g2 hm.1 hm.2 hel, wt_bd_s]
        have g3 : (hst (hnew τ3 (.inl (2, cap + (if cap / 2 ≤ 1 then 1 else cap / 2), .inr (.inr (.inr (.inr (fun _ => none))))))) τ3.2 (.inl (2, cap + (if cap / 2 ≤ 1 then 1 else cap / 2), .inr (.inr (.inr (.inr (va_cpy f (fun _ => none) 0 0 cap))))))).1 l = some (.inr (13, [.int (mc + 1), .ref d, .int (nI es.length)])) := by
          have := gw l _ g1
          rw [hst_ne (by omega), hnew_ne (by omega)]
          exact g1
        show wt_bd (wt_bd (hp (hst (hnew τ3 (.inl (2, cap + (if cap / 2 ≤ 1 then 1 else cap / 2), .inr (.inr (.inr (.inr (fun _ => none))))))) τ3.2 (.inl (2, cap + (if cap / 2 ≤ 1 then 1 else cap / 2), .inr (.inr (.inr (.inr (va_cpy f (fun _ => none) 0 0 cap))))))) l [13] 1 (.ref τ3.2)) _) _ = _
        rw [hp_of (cs := [13]) (k := 1) g3 rfl (by omega) (by simp), wt_bd_s, wt_bd_s]
        simp only [List.set, c]
      rw [hgrow, wt_bd_s, wt_bd_s]
      have hl3 : l < τ3.2 := gw l _ g1
      have hx3 : x < τ3.2 := by
        obtain ⟨fs, e⟩ := hcl_o ((gc x).trans hx)
        exact gw x _ e
      have hxl : hcl (hst (hst (hnew τ3 (.inl (2, cap + (if cap / 2 ≤ 1 then 1 else cap / 2), .inr (.inr (.inr (.inr (fun _ => none))))))) τ3.2 (.inl (2, cap + (if cap / 2 ≤ 1 then 1 else cap / 2), .inr (.inr (.inr (.inr (va_cpy f (fun _ => none) 0 0 cap))))))) l (.inr (13, [.int (mc + 1), .ref τ3.2, .int (nI es.length)]))) x = some cx := by
        have g3 : (hst (hnew τ3 (.inl (2, cap + (if cap / 2 ≤ 1 then 1 else cap / 2), .inr (.inr (.inr (.inr (fun _ => none))))))) τ3.2 (.inl (2, cap + (if cap / 2 ≤ 1 then 1 else cap / 2), .inr (.inr (.inr (.inr (va_cpy f (fun _ => none) 0 0 cap))))))).1 l = some (.inr (13, [.int (mc + 1), .ref d, .int (nI es.length)])) := by
          rw [hst_ne (by omega), hnew_ne (by omega)]
          exact g1
        rw [hcl_st g3]
        unfold hcl
        rw [hst_ne (by omega), hnew_ne (by omega)]
        exact (gc x).trans hx
      refine fin _ τ3.2 (cap + (if cap / 2 ≤ 1 then 1 else cap / 2)) (va_cpy f (fun _ => none) 0 0 cap) hst_eq ?_ (by split <;> omega) (by split <;> omega) ?_ hxl (Or.inr gs) ?_ (by show τ3.2 + 1 ≤ _; omega) (by omega)
      · rw [hst_ne (by omega), hst_eq]
      · intro i e he
        have hi2 : i < es.length := by
          rcases Nat.lt_or_ge i es.length with z | z
          · exact z
          · rw [List.getElem?_eq_none z] at he; cases he
        unfold va_cpy
        rw [if_pos ⟨by omega, by omega⟩, show 0 + (i - 0) = i from by omega]
        exact h6 i e he
      · have g3 : (hst (hnew τ3 (.inl (2, cap + (if cap / 2 ≤ 1 then 1 else cap / 2), .inr (.inr (.inr (.inr (fun _ => none))))))) τ3.2 (.inl (2, cap + (if cap / 2 ≤ 1 then 1 else cap / 2), .inr (.inr (.inr (.inr (va_cpy f (fun _ => none) 0 0 cap))))))).1 l = some (.inr (13, [.int (mc + 1), .ref d, .int (nI es.length)])) := by
          rw [hst_ne (by omega), hnew_ne (by omega)]
          exact g1
        refine gF.then (V := [τ3.2, l]) ((Fr.new.trans (Fr.st hnew_eq (by simp))).trans (Fr.st g3 (by simp))) fun q hq => ?_
        rcases List.mem_cons.mp hq with e | e
        · right; omega
        · left
          have : q = l := by simpa using e
          rw [this]; simp
    · rw [if_neg (show ¬ nI es.length = Int32.ofNat cap from fun z => c ((nI_eq (by omega) (by omega)).mp z)), wt_bd_s]
      exact fin τ3 d cap f g1 g2 (by omega) h5 h6 ((gc x).trans hx) (Or.inl rfl) gF (by omega) hld
  refine wp_ap key fun s hs => ?_
  rw [wp_some]
  exact ⟨rfl, hs⟩
theorem jremove {τ : HP} {l d k e : Nat} {es : List Nat} (h : LA τ l d es) (hk : es[k]? = some e) (hO : Ob τ es) : wp (eJ2_remove τ l (nI k)) (fun r => r.1 = e ∧ LA r.2 l d (es.eraseIdx k) ∧ Fr [l, d] τ r.2 ∧ r.2.2 = τ.2) := by
  have hld := h.ne
  have hlt : k < es.length := by
    rcases Nat.lt_or_ge k es.length with c | c
    · exact c
    · rw [List.getElem?_eq_none c] at hk; cases hk
  obtain ⟨mc, cap, f, h1, h2, h3, h4, h5, h6⟩ := h
  unfold eJ2_remove
  rw [hgI_of (cs := [13]) (k := 2) h1 rfl rfl, wt_bd_s, jcheck hlt (by omega), wt_bd_s, hgA_of (cs := [13]) (k := 1) h1 rfl rfl, wt_bd_s, haR_of h2, wt_bd_s, wt_ck_t (by rw [vp_nI (by omega)]; show k < cap; omega)]
  show wp (wt_bd (f (nI k).toNatClampNeg) _) _
  rw [nI_clamp (by omega), h6 k e hk, wt_bd_s, wt_ck_t (hcl_of h1)]
  have key : wp (eJ2_fastRemove τ l d (nI k)) (fun r => LA r l d (es.eraseIdx k) ∧ Fr [l, d] τ r ∧ r.2 = τ.2) := by
    unfold eJ2_fastRemove
    rw [hgI_of (cs := [13]) (k := 0) h1 rfl rfl, wt_bd_s, hp_of (cs := [13]) (k := 0) h1 rfl (by omega) (by simp), List.set_cons_zero, wt_bd_s]
    show wp (wt_bd (hgI (hst τ l (.inr (13, [.int (mc + 1), .ref d, .int (nI es.length)]))) l [13] 2) _) _
    have g1 : (hst τ l (.inr (13, [.int (mc + 1), .ref d, .int (nI es.length)]))).1 l = some (.inr (13, [.int (mc + 1), .ref d, .int (nI es.length)])) := hst_eq
    have g2 : (hst τ l (.inr (13, [.int (mc + 1), .ref d, .int (nI es.length)]))).1 d = some (.inl (2, cap, .inr (.inr (.inr (.inr f))))) := (hst_ne (Ne.symm hld)).trans h2
    have gc : ∀ q, hcl (hst τ l (.inr (13, [.int (mc + 1), .ref d, .int (nI es.length)]))) q = hcl τ q := fun q => hcl_st h1
    have gF : Fr [l, d] τ (hst τ l (.inr (13, [.int (mc + 1), .ref d, .int (nI es.length)]))) := Fr.st h1 (by simp)
    have gs : (hst τ l (.inr (13, [.int (mc + 1), .ref d, .int (nI es.length)]))).2 = τ.2 := rfl
    generalize hst τ l (.inr (13, [.int (mc + 1), .ref d, .int (nI es.length)])) = τ3 at g1 g2 gc gF gs
    rw [hgI_of (cs := [13]) (k := 2) g1 rfl rfl, wt_bd_s]
    show wp (wt_bd (if (nI es.length - 1) ≤ nI k then (some (τ3)) else _) _) _
    have e1 : nI es.length - 1 = nI (es.length - 1) := nI_sub1 (by omega)
    rw [e1]
    have fin : ∀ (s : HP) (f' : Nat → Option Nat), s.1 l = some (.inr (13, [.int (mc + 1), .ref d, .int (nI es.length)])) → s.1 d = some (.inl (2, cap, .inr (.inr (.inr (.inr f'))))) → (∀ i e, (es.eraseIdx k)[i]? = some e → f' i = some e) → Fr [l, d] τ s → s.2 = τ.2 → wp (wt_bd (hp s l [13] 2 (.int (nI (es.length - 1)))) fun τ20 => wt_bd (haR τ20 d 2) fun z22 => wt_ck (vp_in (nI (es.length - 1)) z22.1) <| wt_lt (hst τ20 d (.inl (2, z22.1, .inr (.inr (.inr (.inr (va_up z22.2 (nI (es.length - 1)).toNatClampNeg none))))))) fun τ25 => some (τ25)) (fun r => LA r l d (es.eraseIdx k) ∧ Fr [l, d] τ r ∧ r.2 = τ.2) := by
      intro s f' k1 k2 k3 k4 k5
      rw [hp_of (cs := [13]) (k := 2) k1 rfl (by omega) (by simp), wt_bd_s]
      have j2 : (hst s l (.inr (13, [Value.int (mc + 1), .ref d, .int (nI es.length)].set 2 (.int (nI (es.length - 1)))))).1 d = some (.inl (2, cap, .inr (.inr (.inr (.inr f'))))) := (hst_ne (Ne.symm hld)).trans k2
      rw [haR_of j2, wt_bd_s, wt_ck_t (by rw [vp_nI (by omega)]; show _ < cap; omega), wp_lt, wp_some]
      refine ⟨⟨mc + 1, cap, va_up f' (nI (es.length - 1)).toNatClampNeg none, ?_, hst_eq, ?_, h4, h5, ?_⟩, k4.trans ((Fr.st k1 (by simp)).trans (Fr.st j2 (by simp))), k5⟩
      · rw [hst_ne hld, hst_eq, List.length_eraseIdx_of_lt hlt]
        rfl
      · rw [List.length_eraseIdx_of_lt hlt]; omega
      · intro i e he
        have hi : i < es.length - 1 := by
          rcases Nat.lt_or_ge i (es.length - 1) with z | z
          · exact z
          · rw [List.getElem?_eq_none (by rw [List.length_eraseIdx_of_lt hlt]; exact z)] at he; cases he
        rw [nI_clamp (by omega), va_up_ne _ _ (by omega)]
        exact k3 i e he
    by_cases c : es.length - 1 ≤ k
    · rw [if_pos (nI_le c (by omega)), wt_bd_s]
      refine fin τ3 f g1 g2 (fun i e he => ?_) gF gs
      have hi : i < es.length - 1 := by
        rcases Nat.lt_or_ge i (es.length - 1) with z | z
        · exact z
        · rw [List.getElem?_eq_none (by rw [List.length_eraseIdx_of_lt hlt]; exact z)] at he; cases he
      rw [List.getElem?_eraseIdx_of_lt (by omega)] at he
      exact h6 i e he
    · rw [if_neg (nI_ge (by omega) (by omega)), haR_of g2, wt_bd_s, wt_bd_s]
      have e2 : nI (es.length - 1) - nI k = nI (es.length - 1 - k) := pk_sub (by omega)
      have e3 : nI k + 1 = nI (k + 1) := nI_1 k
      rw [e2, e3, wt_ck_t (by
        rw [nI_clamp (by omega), nI_clamp (by omega), nI_clamp (by omega)]
        exact ⟨nI_pos (by omega), nI_pos (by omega), nI_pos (by omega), by show _ ≤ cap; omega, by show _ ≤ cap; omega⟩), wt_ck_t (by
        rw [nI_clamp (by omega), nI_clamp (by omega)]
        intro i hi y hy
        have hi2 : k + 1 + i < es.length := by omega
        have e4 := h6 (k + 1 + i) (es[k + 1 + i]) (List.getElem?_eq_getElem hi2)
        rw [show f (k + 1 + i) = some y from hy] at e4
        cases e4
        rw [gc]
        exact hO _ (List.getElem_mem hi2)), nI_clamp (by omega), nI_clamp (by omega), nI_clamp (by omega)]
      show wp (wt_bd (some (hst τ3 d (.inl (2, cap, .inr (.inr (.inr (.inr (va_cpy f f (k + 1) k (es.length - 1 - k))))))))) _) _
      rw [wt_bd_s]
      refine fin _ (va_cpy f f (k + 1) k (es.length - 1 - k)) ((hst_ne hld).trans g1) hst_eq (fun i e he => ?_) (gF.trans (Fr.st g2 (by simp))) gs
      have hi : i < es.length - 1 := by
        rcases Nat.lt_or_ge i (es.length - 1) with z | z
        · exact z
        · rw [List.getElem?_eq_none (by rw [List.length_eraseIdx_of_lt hlt]; exact z)] at he; cases he
      unfold va_cpy
      rcases Nat.lt_or_ge i k with z | z
      · rw [List.getElem?_eraseIdx_of_lt z] at he
        rw [if_neg (by omega)]
        exact h6 i e he
      · rw [List.getElem?_eraseIdx_of_ge z] at he
        rw [if_pos ⟨z, by omega⟩, show k + 1 + (i - k) = i + 1 from by omega]
        exact h6 (i + 1) e he
  refine wp_ap key fun s hs => ?_
  rw [wp_some]
  exact ⟨rfl, hs⟩
/-! THE PLAIN LAW, 12: texts: blanks, words, numbers, clauses, events: what a text says; the model reads it so -/
set_option maxRecDepth 100000
def isB (tx : Nat → Nat) (n k : Nat) : Bool := decide (k < n ∧ tx k = 32)
def isL (tx : Nat → Nat) (n k : Nat) : Bool := decide (k < n ∧ 97 ≤ tx k ∧ tx k ≤ 122)
def isD (tx : Nat → Nat) (n k : Nat) : Bool := decide (k < n ∧ 48 ≤ tx k ∧ tx k ≤ 57)
/-- the end of a run -/
def eo (P : Nat → Bool) : Nat → Nat → Nat
  | 0, p => p
  | k + 1, p => if P p = true then eo P k (p + 1) else p
def skB (tx : Nat → Nat) (n p : Nat) : Nat := eo (isB tx n) (n - p) p
def skL (tx : Nat → Nat) (n p : Nat) : Nat := eo (isL tx n) (n - p) p
def skD (tx : Nat → Nat) (n p : Nat) : Nat := eo (isD tx n) (n - p) p
theorem eo_le (P : Nat → Bool) : ∀ k p, p ≤ eo P k p ∧ eo P k p ≤ p + k := by
  intro k
  induction k with
  | zero => intro p; exact ⟨Nat.le_refl _, Nat.le_refl _⟩
  | succ k ih =>
    intro p
    unfold eo
    split
    · have := ih (p + 1)
      omega
    · omega
theorem eo_in (P : Nat → Bool) : ∀ k p q, p ≤ q → q < eo P k p → P q = true := by
  intro k
  induction k with
  | zero => intro p q h1 h2; exact absurd h2 (by show ¬ q < p; omega)
  | succ k ih =>
    intro p q h1 h2
    unfold eo at h2
    by_cases c : P p = true
    · rw [if_pos c] at h2
      by_cases e : q = p
      · rw [e]; exact c
      · exact ih (p + 1) q (by omega) h2
    · rw [if_neg c] at h2; omega
theorem eo_stop {P : Nat → Bool} {n : Nat} (hP : ∀ q, P q = true → q < n) : ∀ k p, n ≤ p + k → ¬ P (eo P k p) = true := by
  intro k
  induction k with
  | zero => intro p h c; have := hP _ c; unfold eo at this; omega
  | succ k ih =>
    intro p h
    unfold eo
    by_cases c : P p = true
    · rw [if_pos c]; exact ih (p + 1) (by omega)
    · rw [if_neg c]; exact c
theorem eo_step {P : Nat → Bool} {n p : Nat} (hP : ∀ q, P q = true → q < n) (h : P p = true) : eo P (n - p) p = eo P (n - (p + 1)) (p + 1) := by
  have := hP p h
  rw [show n - p = (n - (p + 1)) + 1 from by omega]
  show (if P p = true then _ else _) = _
  rw [if_pos h]
theorem eo_end {P : Nat → Bool} {k p : Nat} (h : ¬ P p = true) : eo P k p = p := by
  cases k with
  | zero => rfl
  | succ k => show (if P p = true then _ else _) = _; rw [if_neg h]
theorem isB_lt {tx : Nat → Nat} {n : Nat} : ∀ q, isB tx n q = true → q < n := fun q h => (of_decide_eq_true h).1
theorem isL_lt {tx : Nat → Nat} {n : Nat} : ∀ q, isL tx n q = true → q < n := fun q h => (of_decide_eq_true h).1
theorem isD_lt {tx : Nat → Nat} {n : Nat} : ∀ q, isD tx n q = true → q < n := fun q h => (of_decide_eq_true h).1
theorem skB_le {tx : Nat → Nat} {n p : Nat} (h : p ≤ n) : p ≤ skB tx n p ∧ skB tx n p ≤ n := by
  have := eo_le (isB tx n) (n - p) p
  unfold skB
  omega
theorem skL_le {tx : Nat → Nat} {n p : Nat} (h : p ≤ n) : p ≤ skL tx n p ∧ skL tx n p ≤ n := by
  have := eo_le (isL tx n) (n - p) p
  unfold skL
  omega
theorem skD_le {tx : Nat → Nat} {n p : Nat} (h : p ≤ n) : p ≤ skD tx n p ∧ skD tx n p ≤ n := by
  have := eo_le (isD tx n) (n - p) p
  unfold skD
  omega
theorem skB_idem {tx : Nat → Nat} {n p : Nat} (h : p ≤ n) : skB tx n (skB tx n p) = skB tx n p := eo_end (eo_stop isB_lt _ _ (by omega))
/-- the letters from q on, the last first, as numbers from 1 on -/
def wl (tx : Nat → Nat) (q : Nat) : Nat → List Nat
  | 0 => []
  | k + 1 => (tx (q + k) - 96) :: wl tx q k
def wlen (tx : Nat → Nat) (n q : Nat) : Nat := skL tx n q - q
/-- the word at q -/
def wd (tx : Nat → Nat) (n q : Nat) : List Nat := wl tx q (wlen tx n q)
def wc : List Nat → Nat
  | [] => 0
  | c :: r => 27 * wc r + c
theorem wl_len {tx : Nat → Nat} {q : Nat} : ∀ k, (wl tx q k).length = k := by
  intro k
  induction k with
  | zero => rfl
  | succ k ih => show (wl tx q k).length + 1 = k + 1; rw [ih]
theorem wc_lt : ∀ (l : List Nat), (∀ c, c ∈ l → 1 ≤ c ∧ c ≤ 26) → wc l < 27 ^ l.length := by
  intro l
  induction l with
  | nil => intro _; decide
  | cons c r ih =>
    intro h
    have h1 := ih fun x hx => h x (List.mem_cons_of_mem _ hx)
    have h2 := h c List.mem_cons_self
    show 27 * wc r + c < 27 ^ (r.length + 1)
    rw [Nat.pow_succ]
    omega
theorem wc_inj : ∀ (l l' : List Nat), (∀ c, c ∈ l → 1 ≤ c ∧ c ≤ 26) → (∀ c, c ∈ l' → 1 ≤ c ∧ c ≤ 26) → wc l = wc l' → l = l' := by
  intro l
  induction l with
  | nil =>
    intro l' _ h e
    cases l' with
    | nil => rfl
    | cons c r =>
      have h2 := h c List.mem_cons_self
      have e2 : 0 = 27 * wc r + c := e
      omega
  | cons c r ih =>
    intro l' h h' e
    cases l' with
    | nil =>
      have h2 := h c List.mem_cons_self
      have e2 : 27 * wc r + c = 0 := e
      omega
    | cons c' r' =>
      have h2 := h c List.mem_cons_self
      have h3 := h' c' List.mem_cons_self
      have e2 : 27 * wc r + c = 27 * wc r' + c' := e
      have e3 : c = c' := by omega
      have e4 : wc r = wc r' := by omega
      rw [e3, ih r' (fun x hx => h x (List.mem_cons_of_mem _ hx)) (fun x hx => h' x (List.mem_cons_of_mem _ hx)) e4]
theorem wl_in {tx : Nat → Nat} {n q : Nat} : ∀ k, k ≤ wlen tx n q → ∀ c, c ∈ wl tx q k → 1 ≤ c ∧ c ≤ 26 := by
  intro k
  induction k with
  | zero => intro _ c h; cases h
  | succ k ih =>
    intro hk c h
    rcases List.mem_cons.mp h with e | e
    · have h1 := eo_in (isL tx n) (n - q) q (q + k) (by omega) (by unfold wlen skL at hk; omega)
      have h2 := of_decide_eq_true h1
      omega
    · exact ih (by omega) c e
/-- a number from q on -/
def nv (tx : Nat → Nat) (q : Nat) : Nat → Nat
  | 0 => 0
  | k + 1 => 10 * nv tx q k + (tx (q + k) - 48)
def nval (tx : Nat → Nat) (n q : Nat) : Nat := nv tx q (skD tx n q - q)
/-- a fault (its kind, its place), or what is read -/
abbrev PR (α : Type) : Type := (Nat × Nat) ⊕ α
def pNum (tx : Nat → Nat) (n lo hi : Nat) (ne : Option Nat) (p : Nat) : PR (Nat × Nat) :=
  if isD tx n (skB tx n p) = true then
    (if nval tx n (skB tx n p) < lo ∨ hi < nval tx n (skB tx n p) ∨ ne = some (nval tx n (skB tx n p)) then .inl (2, skB tx n p) else .inr (nval tx n (skB tx n p), skD tx n (skB tx n p)))
  else .inl (1, skB tx n p)
def pSign (tx : Nat → Nat) (n p : Nat) : PR Nat := if skB tx n p < n ∧ tx (skB tx n p) = 59 then .inr (skB tx n p + 1) else .inl (1, skB tx n p)
def pB {α β : Type} (x : PR α) (f : α → PR β) : PR β := match x with
  | .inl e => .inl e
  | .inr a => f a
def cKind (w : List Nat) : Nat := if w = [4, 5, 8, 19] then 0 else if w = [4, 12, 15, 8] then 1 else if w = [8, 19, 1, 23] then 2 else if w = [19, 19, 1, 16] then 3 else if w = [5, 11, 1, 20] then 4 else if w = [5, 11, 9, 12, 1] then 5 else if w = [14, 15, 13, 13, 15, 3] then 6 else 7
/-- a clause: (its end, (its kind, garment, sort, number)) -/
def pClause (tx : Nat → Nat) (n ncl p : Nat) : PR (Nat × Nat × Nat × Nat × Nat) :=
  let q := skB tx n p
  let w := cKind (wd tx n q)
  if w = 7 then .inl (1, q) else if ncl = 24 then .inl (3, q) else
  pB (if w = 0 then pNum tx n 0 7 none (skL tx n q) else .inr (0, skL tx n q)) fun g =>
  pB (if w < 2 ∨ 4 < w then pNum tx n 0 9 none g.2 else .inr (0, g.2)) fun s =>
  pB (if w = 5 then pNum tx n 0 9 (some s.1) s.2 else pNum tx n (if w = 4 then 1 else 0) (if w = 0 then 200 else if w = 3 then 8 else if w = 4 then 15 else if w = 6 then 20 else 16) none s.2) fun v =>
  pB (pSign tx n v.2) fun e => .inr (e, w, g.1, s.1, v.1)
def pLaw (tx : Nat → Nat) (n : Nat) : Nat → Nat → Nat → PR (List (Nat × Nat × Nat × Nat))
  | 0, _, _ => .inr []
  | k + 1, ncl, p => if n ≤ p then .inr [] else pB (pClause tx n ncl p) fun c => pB (pLaw tx n k (ncl + 1) (skB tx n c.1)) fun l => .inr (c.2 :: l)
def eKind (w : List Nat) : Nat := if w = [18, 1, 5, 23] then 0 else if w = [5, 18, 1, 2] then 1 else if w = [8, 3, 21, 15, 20] then 2 else if w = [8, 19, 1, 23] then 3 else if w = [5, 11, 1, 8, 19] then 4 else 5
/-- the hour of an event, after the word 'at'; not before the last one's -/
def pAt (tx : Nat → Nat) (n : Nat) (last : Option Nat) (p : Nat) : PR (Nat × Nat) :=
  let q := skB tx n p
  if wd tx n q = [20, 1] then
    pB (pNum tx n 0 99 none (skL tx n q)) fun h =>
    if (match last with | none => false | some l => decide (h.1 < l)) = true then .inl (3, skB tx n (skL tx n q)) else .inr h
  else .inl (1, q)
/-- an event: (its end, (kind, place, other, hour)) -/
def pEvent (tx : Nat → Nat) (n k : Nat) (last : Option Nat) (p : Nat) : PR (Nat × Nat × Nat × Nat × Nat) :=
  let q := skB tx n p
  let w := eKind (wd tx n q)
  if w = 5 then .inl (1, q) else if k = 20 then .inl (3, q) else
  pB (pNum tx n 0 9 none (skL tx n q)) fun a =>
  pB (if w = 0 then pNum tx n 0 7 none a.2 else if w = 2 then pNum tx n 0 9 (some a.1) a.2 else if w = 4 then pNum tx n 0 16 none a.2 else .inr (0, a.2)) fun b =>
  pB (pAt tx n last b.2) fun h =>
  pB (pSign tx n h.2) fun e => .inr (e, w, a.1, b.1, h.1)
def pStory (tx : Nat → Nat) (n : Nat) : Nat → Nat → Option Nat → Nat → PR (List (Nat × Nat × Nat × Nat))
  | 0, _, _, _ => .inr []
  | f + 1, k, last, p => if n ≤ p then .inr [] else pB (pEvent tx n k last p) fun c => pB (pStory tx n f (k + 1) (some c.2.2.2.2) (skB tx n c.1)) fun l => .inr (c.2 :: l)
/-! the model reads -/
theorem sF_sF {σ : MSt} {k : Nat} {a b : Int32} : m_sF (m_sF σ k a) k b = m_sF σ k b := mst_ext (fun j => by
  rw [sF_1, sF_1, sF_1]
  split <;> rfl) (fun _ _ => rfl) (fun _ _ _ => rfl)
theorem sF_self {σ : MSt} {k : Nat} {a : Int32} (h : σ.1 k = a) : m_sF σ k a = σ := mst_ext (fun j => by
  rw [sF_1]
  split
  · rename_i e; rw [e, h]
  · rfl) (fun _ _ => rfl) (fun _ _ _ => rfl)
/-- the model is at p of the text tx of n signs -/
def MP (σ : MSt) (tx : Nat → Nat) (n p : Nat) : Prop := σ.1 2 = nI n ∧ n ≤ 400 ∧ (∀ k, k < n → σ.2.1 7 k = nI (tx k) ∧ tx k < 256) ∧ σ.1 4 = nI p ∧ p ≤ n
theorem MP.at {σ : MSt} {tx : Nat → Nat} {n p q : Nat} (h : MP σ tx n p) (hq : q ≤ n) : MP (m_sF σ 4 (nI q)) tx n q := ⟨by rw [sF_1, if_neg (by omega)]; exact h.1, h.2.1, h.2.2.1, by rw [sF_1, if_pos rfl], hq⟩
theorem MP.E {f a g : List Nat} {σ σ' : MSt} {tx : Nat → Nat} {n p : Nat} (h : MP σ tx n p) (hE : mE f a g σ σ') (h2 : 2 ∉ f) (h4 : 4 ∉ f) (h7 : 7 ∉ a) : MP σ' tx n p := ⟨by rw [hE.1 2 h2]; exact h.1, h.2.1, by rw [hE.2.1 7 h7]; exact h.2.2.1, by rw [hE.1 4 h4]; exact h.2.2.2.1, h.2.2.2.2⟩
def bv (tx : Nat → Nat) (n k : Nat) : Int32 := if k < n then nI (tx k) else -1
theorem byteAt_e {σ : MSt} {tx : Nat → Nat} {n p k : Nat} (h : MP σ tx n p) (hk : k < 2 ^ 31) : dX4_byteAt σ (nI k) = some (bv tx n k) := by
  obtain ⟨h1, h2, h3, -⟩ := h
  unfold dX4_byteAt bv
  rw [h1]
  by_cases c : k < n
  · rw [if_pos (nI_lt c (by omega)), if_pos c, wt_ck_t (by rw [vp_nI hk]; omega), nI_clamp hk, (h3 k c).1]
  · rw [if_neg (nI_nlt (by omega) hk), if_neg c]
theorem bv_32 {tx : Nat → Nat} {n k : Nat} (ht : ∀ k, k < n → tx k < 256) : (bv tx n k = 32) = (isB tx n k = true) := propext (by
  unfold bv isB
  by_cases c : k < n
  · have := ht k c
    rw [if_pos c, il_eq2 (by omega) (by omega)]
    simp [c]
  · rw [if_neg c]
    simp [c])
theorem bv_L {tx : Nat → Nat} {n k : Nat} (ht : ∀ k, k < n → tx k < 256) : (¬ bv tx n k < 97 ∧ ¬ 122 < bv tx n k) = (isL tx n k = true) := propext (by
  unfold bv isL
  by_cases c : k < n
  · have := ht k c
    rw [if_pos c, il_lt2 (by omega) (by omega), il_lt (by omega) (by omega)]
    simp [c]
  · rw [if_neg c]
    have : (-1 : Int32) < 97 := by decide
    simp [c, this])
theorem bv_D {tx : Nat → Nat} {n k : Nat} (ht : ∀ k, k < n → tx k < 256) : (¬ bv tx n k < 48 ∧ ¬ 57 < bv tx n k) = (isD tx n k = true) := propext (by
  unfold bv isD
  by_cases c : k < n
  · have := ht k c
    rw [if_pos c, il_lt2 (by omega) (by omega), il_lt (by omega) (by omega)]
    simp [c]
  · rw [if_neg c]
    have : (-1 : Int32) < 48 := by decide
    simp [c, this])
theorem MP.tx {σ : MSt} {tx : Nat → Nat} {n p : Nat} (h : MP σ tx n p) : ∀ k, k < n → tx k < 256 := fun k hk => (h.2.2.1 k hk).2
theorem MP.self {σ : MSt} {tx : Nat → Nat} {n p : Nat} (h : MP σ tx n p) : m_sF σ 4 (nI p) = σ := sF_self h.2.2.2.1
theorem blanks_e {σ : MSt} {tx : Nat → Nat} {n p : Nat} (h : MP σ tx n p) : dX4_blanks σ = some (m_sF σ 4 (nI (skB tx n p))) := by
  have hn := h.2.1
  apply wp_eq
  unfold dX4_blanks
  rw [wp_bd]
  simp only [wp_some]
  refine wp_loop (fun m v => ∃ q, m = n - q ∧ q ≤ n ∧ v = m_sF σ 4 (nI q) ∧ skB tx n q = skB tx n p) ?_ (n - p) _ ⟨p, rfl, h.2.2.2.2, h.self.symm, rfl⟩
  rintro m v ⟨q, rfl, hq, rfl, e⟩
  have hM := h.at hq
  unfold bX4_blanks_1
  rw [hM.2.2.2.1, byteAt_e hM (by omega), wt_bd_s, wp_ite]
  by_cases c : isB tx n q = true
  · have hlt := isB_lt q c
    rw [if_pos (by rw [bv_32 hM.tx]; exact c), wp_lt, wp_some, lpo_l, nI_1, sF_sF]
    refine ⟨n - (q + 1), by omega, q + 1, rfl, hlt, rfl, ?_⟩
    rw [← e]
    exact (eo_step isB_lt c).symm
  · rw [if_neg (by rw [bv_32 hM.tx]; exact c), wp_some, lpo_r, ← e]
    exact congrArg (fun z => m_sF σ 4 (nI z)) (eo_end c).symm
theorem skip_e {σ : MSt} {tx : Nat → Nat} {n p : Nat} (h : MP σ tx n p) : dX4_skipWord σ = some (m_sF σ 4 (nI (skL tx n p))) := by
  have hn := h.2.1
  apply wp_eq
  unfold dX4_skipWord
  rw [wp_bd]
  simp only [wp_some]
  refine wp_loop (fun m v => ∃ q, m = n - q ∧ q ≤ n ∧ v = m_sF σ 4 (nI q) ∧ skL tx n q = skL tx n p) ?_ (n - p) _ ⟨p, rfl, h.2.2.2.2, h.self.symm, rfl⟩
  rintro m v ⟨q, rfl, hq, rfl, e⟩
  have hM := h.at hq
  unfold bX4_skipWord_1
  rw [hM.2.2.2.1, byteAt_e hM (by omega), wt_bd_s, wp_ite]
  have hL := bv_L (n := n) (k := q) hM.tx
  by_cases c : isL tx n q = true
  · have hlt := isL_lt q c
    rw [← hL] at c
    rw [if_neg c.1, wt_bd_s, wp_ite, if_neg c.2, wp_lt, wp_some, lpo_l, nI_1, sF_sF]
    rw [hL] at c
    refine ⟨n - (q + 1), by omega, q + 1, rfl, hlt, rfl, ?_⟩
    rw [← e]
    exact (eo_step isL_lt c).symm
  · have e2 : m_sF σ 4 (nI q) = m_sF σ 4 (nI (skL tx n p)) := by
      rw [← e]
      exact congrArg (fun z => m_sF σ 4 (nI z)) (eo_end c).symm
    by_cases c1 : bv tx n q < 97
    · rw [if_pos c1, wp_some, lpo_r, e2]
    · rw [if_neg c1, wt_bd_s, wp_ite, if_pos (by
        rw [← hL] at c
        exact Classical.byContradiction fun z => c ⟨c1, z⟩), wp_some, lpo_r, e2]
/-- the model's number of a word -/
def wcode (tx : Nat → Nat) (n q : Nat) : Int32 := if wlen tx n q ≤ 6 then nI (wc (wd tx n q)) else -1
theorem p27 : (27 : Nat) ^ 6 = 387420489 := by decide
theorem wc_small {tx : Nat → Nat} {n q k : Nat} (hk : k ≤ wlen tx n q) (h6 : k ≤ 6) : wc (wl tx q k) < 387420489 := by
  have h1 := wc_lt (wl tx q k) (wl_in k hk)
  rw [wl_len] at h1
  have h2 : (27 : Nat) ^ k ≤ 27 ^ 6 := Nat.pow_le_pow_right (by omega) h6
  rw [p27] at h2
  omega
theorem word_e {σ : MSt} {tx : Nat → Nat} {n p : Nat} (h : MP σ tx n p) : dX4_wordHere σ = some (wcode tx n (skB tx n p), m_sF σ 4 (nI (skB tx n p))) := by
  have hn := h.2.1
  obtain ⟨hp1, hp2⟩ := skB_le (tx := tx) h.2.2.2.2
  have hM := h.at hp2
  unfold dX4_wordHere
  rw [blanks_e h, wt_bd_s]
  generalize skB tx n p = q at hp1 hp2 hM
  have hwl : q + wlen tx n q ≤ n := by
    have := skL_le (tx := tx) hp2
    unfold wlen
    omega
  have key : wt_whC (bX4_wordHere_1 (m_sF σ 4 (nI q))) ((0 : Int32), (0 : Int32)) = some (nI (wc (wl tx q (if wlen tx n q ≤ 6 then wlen tx n q else 6))), nI (wlen tx n q)) := by
    apply wp_eq
    refine wp_for (wlen tx n q) 0 (fun k v => v = (nI (wc (wl tx q (if k ≤ 6 then k else 6))), nI k)) (by omega) rfl ?_ ?_
    · rintro k v hk rfl
      have hc : isL tx n (q + k) = true := eo_in (isL tx n) (n - q) q (q + k) (by omega) (by unfold wlen skL at hk; omega)
      have hL := bv_L (n := n) (k := q + k) hM.tx
      have hlt := isL_lt _ hc
      have htx := of_decide_eq_true hc
      have hc2 := hc
      rw [← hL] at hc2
      unfold bX4_wordHere_1
      dsimp only
      rw [hM.2.2.2.1, nI_add, byteAt_e hM (by omega), wt_bd_s, wp_ite, if_neg hc2.1, wt_bd_s, wp_ite, if_neg hc2.2, wp_ite]
      by_cases c6 : 6 ≤ k
      · rw [if_pos (by rw [il_le (by omega) (by omega)]; exact c6), wp_lt, wp_some, lpo_l, nI_1]
        by_cases c7 : k ≤ 6
        · have : k = 6 := by omega
          subst this
          rfl
        · rw [if_neg c7, if_neg (by omega)]
      · have hs := wc_small (tx := tx) (n := n) (q := q) (k := k) (by omega) (by omega)
        rw [if_neg (by rw [il_le (by omega) (by omega)]; exact c6), wt_bd_s, wp_lt, wp_lt, wp_some, lpo_l, nI_1, if_pos (show k ≤ 6 by omega), if_pos (show k + 1 ≤ 6 by omega)]
        have e : (27 : Int32) * nI (wc (wl tx q k)) + bv tx n (q + k) - 97 + 1 = nI (wc (wl tx q (k + 1))) := by
          unfold bv
          rw [if_pos hlt, il_mul, nI_add, il_sub (by omega), il_add]
          show _ = nI (27 * wc (wl tx q k) + (tx (q + k) - 96))
          exact congrArg nI (by omega)
        rw [e]
    · rintro v rfl
      have hc : ¬ isL tx n (q + wlen tx n q) = true := by
        have h1 := skL_le (tx := tx) hp2
        have e : q + wlen tx n q = skL tx n q := by unfold wlen; omega
        rw [e]
        exact eo_stop isL_lt _ _ (by omega)
      have hL := bv_L (n := n) (k := q + wlen tx n q) hM.tx
      rw [← hL] at hc
      unfold bX4_wordHere_1
      dsimp only
      rw [hM.2.2.2.1, nI_add, byteAt_e hM (by omega), wt_bd_s, wp_ite]
      by_cases c1 : bv tx n (q + wlen tx n q) < 97
      · rw [if_pos c1, wp_some, lpo_r]
      · rw [if_neg c1, wt_bd_s, wp_ite, if_pos (Classical.byContradiction fun z => hc ⟨c1, z⟩), wp_some, lpo_r]
  rw [key, wt_bd_s]
  unfold wcode wd
  dsimp only
  by_cases c : wlen tx n q ≤ 6
  · rw [if_pos (by rw [il_le2 (by omega) (by omega)]; exact c), if_pos c, if_pos c]
  · rw [if_neg (by rw [il_le2 (by omega) (by omega)]; exact c), if_neg c]
theorem isWord_e {σ : MSt} {tx : Nat → Nat} {n p : Nat} {a b c d e f : Int32} (W : List Nat) (h : MP σ tx n p) (hw : dX4_word a b c d e f = some (nI (wc W))) (hW : ∀ c, c ∈ W → 1 ≤ c ∧ c ≤ 26) (hl : W.length ≤ 6) : dX4_isWord σ a b c d e f = some (if wd tx n (skB tx n p) = W then 1 else 0, m_sF σ 4 (nI (skB tx n p))) := by
  unfold dX4_isWord
  rw [word_e h, wt_bd_s, hw, wt_bd_s]
  dsimp only
  have hs : wc W < 387420489 := by
    have h1 := wc_lt W hW
    have h2 : (27 : Nat) ^ W.length ≤ 27 ^ 6 := Nat.pow_le_pow_right (by omega) hl
    rw [p27] at h2
    omega
  have key : (wcode tx n (skB tx n p) = nI (wc W)) = (wd tx n (skB tx n p) = W) := propext (by
    unfold wcode
    by_cases c : wlen tx n (skB tx n p) ≤ 6
    · have h3 := wc_small (tx := tx) (n := n) (q := skB tx n p) (Nat.le_refl _) c
      rw [if_pos c, nI_eq (by show wc (wl _ _ _) < _; omega) (by omega)]
      exact ⟨fun z => wc_inj _ _ (wl_in _ (Nat.le_refl _)) hW z, fun z => by rw [z]⟩
    · rw [if_neg c]
      constructor
      · intro z
        exact absurd z.symm (by rw [nI_neg (by omega)]; exact id)
      · intro z
        have h4 := congrArg List.length z
        unfold wd at h4
        rw [wl_len] at h4
        omega)
  by_cases c : wd tx n (skB tx n p) = W
  · rw [if_pos (by rw [key]; exact c), if_pos c]
  · rw [if_neg (by rw [key]; exact c), if_neg c]
/-- a fault stands -/
def Fl (σ : MSt) (k pl : Nat) : Prop := σ.1 5 = nI k ∧ σ.1 6 = nI pl ∧ 1 ≤ k ∧ k ≤ 3
theorem Fl.ne {σ : MSt} {k pl : Nat} (h : Fl σ k pl) : ¬ σ.1 5 = 0 := by
  rw [h.1]
  exact nI_ne0 h.2.2.1 (by have := h.2.2.2; omega)
theorem Fl.E {f a g : List Nat} {σ σ' : MSt} {k pl : Nat} (h : Fl σ k pl) (hE : mE f a g σ σ') (h5 : 5 ∉ f) (h6 : 6 ∉ f) : Fl σ' k pl := ⟨(hE.1 5 h5).trans h.1, (hE.1 6 h6).trans h.2.1, h.2.2⟩
theorem wrong_n {σ : MSt} {a b : Int32} (h : ¬ σ.1 5 = 0) : dX4_wrong σ a b = some σ := by
  unfold dX4_wrong
  rw [if_neg h]
theorem wrong_y {σ : MSt} {k pl : Nat} (h : σ.1 5 = 0) (hk : 1 ≤ k) (hk3 : k ≤ 3) : wp (dX4_wrong σ (nI k) (nI pl)) (fun s => Fl s k pl ∧ mE [5, 6] [] [] σ s) := by
  unfold dX4_wrong
  rw [if_pos h, wp_lt, wp_lt, wp_some]
  refine ⟨⟨?_, ?_, hk, hk3⟩, (mE_sF (by simp)).trans (mE_sF (by simp))⟩
  · rw [sF_1, if_neg (by omega), sF_1, if_pos rfl]
  · rw [sF_1, if_pos rfl]
theorem isDigit_e {tx : Nat → Nat} {n k : Nat} (ht : ∀ k, k < n → tx k < 256) : dX4_isDigit (bv tx n k) = some (if isD tx n k = true then 1 else 0) := by
  have hD := bv_D (n := n) (k := k) ht
  unfold dX4_isDigit
  by_cases c : isD tx n k = true
  · rw [if_pos c]
    rw [← hD] at c
    rw [if_neg c.1, if_neg c.2]
  · rw [if_neg c]
    rw [← hD] at c
    by_cases c1 : bv tx n k < 48
    · rw [if_pos c1]
    · rw [if_neg c1, if_pos (Classical.byContradiction fun z => c ⟨c1, z⟩)]
/-- fields but f stand, and the place is within the text -/
def mEp (n : Nat) (f : List Nat) (σ s : MSt) : Prop := mE f [] [] σ s ∧ ∃ q, q ≤ n ∧ s.1 4 = nI q
theorem mEp_of {σ s : MSt} {n q : Nat} (h : mE [5, 6] [] [] (m_sF σ 4 (nI q)) s) (hq : q ≤ n) : mEp n [4, 5, 6] σ s := ⟨(mE_sF (by simp)).trans (h.wide (by simp) (by simp) (by simp)), q, hq, by rw [h.1 4 (by simp), sF_1, if_pos rfl]⟩
def ntI (ne : Option Nat) : Int32 := match ne with
  | none => -1
  | some s => nI s
theorem min_s {a d : Nat} : (if 10 * (if a ≤ 100000 then a else 100000) + d ≤ 100000 then 10 * (if a ≤ 100000 then a else 100000) + d else 100000) = (if 10 * a + d ≤ 100000 then 10 * a + d else 100000) := by
  by_cases c : a ≤ 100000
  · rw [if_pos c]
  · rw [if_neg c, if_neg (by omega), if_neg (by omega)]
theorem num_e {σ : MSt} {tx : Nat → Nat} {n p lo hi : Nat} {ne : Option Nat} (h : MP σ tx n p) (h5 : σ.1 5 = 0) (hlo : lo ≤ 1000) (hhi : hi ≤ 1000) (hne : ∀ s, ne = some s → s ≤ 1000) :
    wp (dX4_number σ (nI lo) (nI hi) (ntI ne)) (fun r => match pNum tx n lo hi ne p with
      | .inr o => r = (nI o.1, m_sF σ 4 (nI o.2)) ∧ o.2 ≤ n ∧ lo ≤ o.1 ∧ o.1 ≤ hi
      | .inl e => Fl r.2 e.1 e.2 ∧ mEp n [4, 5, 6] σ r.2) := by
  have hn := h.2.1
  obtain ⟨hp1, hp2⟩ := skB_le (tx := tx) h.2.2.2.2
  have hM := h.at hp2
  unfold dX4_number pNum
  rw [if_pos h5, blanks_e h, wt_bd_s, wp_lt]
  generalize skB tx n p = q at hp1 hp2 hM
  rw [hM.2.2.2.1, byteAt_e hM (by omega), wt_bd_s, isDigit_e hM.tx, wt_bd_s]
  by_cases c : isD tx n q = true
  · rw [if_pos c, if_pos c, if_neg (by decide), wt_bd_s]
    obtain ⟨hq1, hq2⟩ := skD_le (tx := tx) hp2
    have key : wt_whC bX4_number_1 ((0 : Int32), m_sF σ 4 (nI q)) = some (nI (if nval tx n q ≤ 100000 then nval tx n q else 100000), m_sF σ 4 (nI (skD tx n q))) := by
      apply wp_eq
      refine wp_loop (fun m v => ∃ k, m = n - (q + k) ∧ q + k ≤ skD tx n q ∧ v = (nI (if nv tx q k ≤ 100000 then nv tx q k else 100000), m_sF σ 4 (nI (q + k)))) ?_ (n - q) _ ⟨0, rfl, by omega, rfl⟩
      rintro m v ⟨k, rfl, hk, rfl⟩
      have hM2 := h.at (q := q + k) (by omega)
      unfold bX4_number_1
      dsimp only
      rw [hM2.2.2.2.1, byteAt_e hM2 (by omega), wt_bd_s, isDigit_e hM2.tx, wt_bd_s, wp_ite]
      rcases Nat.lt_or_ge (q + k) (skD tx n q) with hlt | hge
      · have hd : isD tx n (q + k) = true := eo_in (isD tx n) (n - q) q (q + k) (by omega) hlt
        have hd2 := of_decide_eq_true hd
        rw [if_pos hd, if_neg (by decide), wt_bd_s, wp_lt]
        have hcap : (if nv tx q k ≤ 100000 then nv tx q k else 100000) ≤ 100000 := by split <;> omega
        have e : (10 : Int32) * nI (if nv tx q k ≤ 100000 then nv tx q k else 100000) + bv tx n (q + k) - 48 = nI (10 * (if nv tx q k ≤ 100000 then nv tx q k else 100000) + (tx (q + k) - 48)) := by
          unfold bv
          rw [if_pos hd2.1, il_mul, nI_add, il_sub (by omega)]
          exact congrArg nI (by omega)
        have hbig : 10 * (if nv tx q k ≤ 100000 then nv tx q k else 100000) + (tx (q + k) - 48) < 2 ^ 31 := by omega
        have e2 : (if nI (10 * (if nv tx q k ≤ 100000 then nv tx q k else 100000) + (tx (q + k) - 48)) ≤ (100000 : Int32) then (some (nI (10 * (if nv tx q k ≤ 100000 then nv tx q k else 100000) + (tx (q + k) - 48)))) else (some (100000 : Int32))) = some (nI (if nv tx q (k + 1) ≤ 100000 then nv tx q (k + 1) else 100000)) := by
          have e3 := min_s (a := nv tx q k) (d := tx (q + k) - 48)
          show _ = some (nI (if 10 * nv tx q k + (tx (q + k) - 48) ≤ 100000 then 10 * nv tx q k + (tx (q + k) - 48) else 100000))
          rw [← e3]
          generalize 10 * (if nv tx q k ≤ 100000 then nv tx q k else 100000) + (tx (q + k) - 48) = z at hbig
          by_cases c : z ≤ 100000
          · rw [if_pos (by rw [il_le2 (by omega) hbig]; exact c), if_pos c]
          · rw [if_neg (by rw [il_le2 (by omega) hbig]; exact c), if_neg c]
            rfl
        rw [e, e2, wt_bd_s, wp_lt, wp_some, lpo_l, nI_1, sF_sF]
        exact ⟨n - (q + (k + 1)), by omega, k + 1, rfl, by omega, rfl⟩
      · have hd : ¬ isD tx n (q + k) = true := by
          have e : q + k = skD tx n q := by omega
          rw [e]
          exact eo_stop isD_lt _ _ (by omega)
        rw [if_neg hd, if_pos rfl, wp_some, lpo_r]
        unfold nval
        rw [show skD tx n q - q = k from by omega, show q + k = skD tx n q from by omega]
    rw [key, wt_bd_s, in_e, wt_bd_s]
    dsimp only
    generalize nval tx n q = V
    have hcap : (if V ≤ 100000 then V else 100000) ≤ 100000 := by split <;> omega
    have h5' : (m_sF σ 4 (nI (skD tx n q))).1 5 = 0 := by rw [sF_1, if_neg (by omega)]; exact h5
    have bad : wp (wt_bd (dX4_wrong (m_sF σ 4 (nI (skD tx n q))) (2 : Int32) (nI q)) fun w48 => some (nI (if V ≤ 100000 then V else 100000), w48)) (fun r => Fl r.2 2 q ∧ mEp n [4, 5, 6] σ r.2) := by
      refine wp_ap (wrong_y (k := 2) h5' (by omega) (by omega)) fun s hs => ?_
      rw [wp_some]
      exact ⟨hs.1, mEp_of hs.2 hq2⟩
    by_cases c1 : V < lo ∨ hi < V
    · have hin : mIn (nI (if V ≤ 100000 then V else 100000)) (nI lo) (nI hi) = 0 := by
        refine mIn_f ?_
        rw [nI_toInt (by omega), nI_toInt (by omega), nI_toInt (by omega)]
        split <;> omega
      rw [hin, if_pos rfl, wt_bd_s, rs_l, if_pos (c1.elim Or.inl fun z => Or.inr (Or.inl z))]
      exact bad
    · have hin : mIn (nI (if V ≤ 100000 then V else 100000)) (nI lo) (nI hi) = 1 := by
        refine mIn_t ?_ ?_
        · rw [nI_toInt (by omega), nI_toInt (by omega)]
          split <;> omega
        · rw [nI_toInt (by omega), nI_toInt (by omega)]
          split <;> omega
      have eV : (if V ≤ 100000 then V else 100000) = V := if_pos (by omega)
      rw [hin, if_neg (by decide)]
      rw [eV] at bad ⊢
      by_cases c2 : ne = some V
      · have : nI V = ntI ne := by rw [c2]; rfl
        rw [if_pos this, wt_bd_s, rs_l, if_pos (by exact Or.inr (Or.inr c2))]
        exact bad
      · have : ¬ nI V = ntI ne := by
          intro z
          cases ne with
          | none =>
            have z2 : nI V = -1 := z
            rw [nI_neg (by omega)] at z2
            exact z2
          | some s =>
            have := hne s rfl
            have z2 : nI V = nI s := z
            rw [nI_eq (by omega) (by omega)] at z2
            exact c2 (by rw [z2])
        rw [if_neg this, wt_bd_s, rs_r, wp_some, if_neg (by
          rintro (z | z | z)
          · omega
          · omega
          · exact c2 z)]
        exact ⟨rfl, hq2, by show lo ≤ V; omega, by show V ≤ hi; omega⟩
  · rw [if_neg c, if_neg c, if_pos rfl]
    have h5' : (m_sF σ 4 (nI q)).1 5 = 0 := by rw [sF_1, if_neg (by omega)]; exact h5
    rw [wp_bd, wp_bd]
    refine wp_mono (wrong_y (k := 1) h5' (by omega) (by omega)) fun s hs => ?_
    rw [wp_some]
    have hMs : MP s tx n q := hM.E hs.2 (by simp) (by simp) (by simp)
    have key : wt_whC bX4_number_1 ((0 : Int32), s) = some ((0 : Int32), s) := by
      refine wt_whC_e ?_
      unfold bX4_number_1
      dsimp only
      rw [hMs.2.2.2.1, byteAt_e hMs (by omega), wt_bd_s, isDigit_e hMs.tx, wt_bd_s, if_neg c, if_pos rfl]
    rw [key, wt_bd_s, in_e, wt_bd_s]
    dsimp only
    have fin : Fl s 1 q ∧ mEp n [4, 5, 6] σ s := ⟨hs.1, mEp_of hs.2 hp2⟩
    have two : wp (wt_bd (dX4_wrong s (2 : Int32) (nI q)) fun w48 => some ((0 : Int32), w48)) (fun r => Fl r.2 1 q ∧ mEp n [4, 5, 6] σ r.2) := by
      rw [wrong_n hs.1.ne, wt_bd_s, wp_some]
      exact fin
    by_cases c1 : mIn (0 : Int32) (nI lo) (nI hi) = 0
    · rw [if_pos c1, wt_bd_s, rs_l]
      exact two
    · rw [if_neg c1]
      by_cases c2 : (0 : Int32) = ntI ne
      · rw [if_pos c2, wt_bd_s, rs_l]
        exact two
      · rw [if_neg c2, wt_bd_s, rs_r, wp_some]
        exact fin
theorem num_f {σ : MSt} {a b c : Int32} (h : ¬ σ.1 5 = 0) : dX4_number σ a b c = some (0, σ) := by
  unfold dX4_number
  rw [if_neg h]
theorem sign_f {σ : MSt} {a : Int32} (h : ¬ σ.1 5 = 0) : dX4_sign σ a = some σ := by
  unfold dX4_sign
  rw [if_neg h]
theorem sign_e {σ : MSt} {tx : Nat → Nat} {n p : Nat} (h : MP σ tx n p) (h5 : σ.1 5 = 0) : wp (dX4_sign σ 59) (fun s => match pSign tx n p with
      | .inr o => s = m_sF σ 4 (nI o) ∧ o ≤ n
      | .inl e => Fl s e.1 e.2 ∧ mEp n [4, 5, 6] σ s) := by
  have hn := h.2.1
  obtain ⟨hp1, hp2⟩ := skB_le (tx := tx) h.2.2.2.2
  have hM := h.at hp2
  unfold dX4_sign pSign
  rw [if_pos h5, blanks_e h, wt_bd_s]
  generalize skB tx n p = q at hp1 hp2 hM
  rw [hM.2.2.2.1, byteAt_e hM (by omega), wt_bd_s, wp_ite]
  have hb : (bv tx n q = 59) = (q < n ∧ tx q = 59) := propext (by
    unfold bv
    by_cases c : q < n
    · have := hM.tx q c
      rw [if_pos c, il_eq2 (by omega) (by omega)]
      simp [c]
    · rw [if_neg c]
      simp [c])
  by_cases c : q < n ∧ tx q = 59
  · rw [if_pos (by rw [hb]; exact c), if_pos c, wp_lt, wp_some, nI_1, sF_sF]
    exact ⟨rfl, c.1⟩
  · rw [if_neg (by rw [hb]; exact c), if_neg c]
    have h5' : (m_sF σ 4 (nI q)).1 5 = 0 := by rw [sF_1, if_neg (by omega)]; exact h5
    refine wp_ap (wrong_y (k := 1) h5' (by omega) (by omega)) fun s hs => ?_
    rw [wp_some]
    exact ⟨hs.1, mEp_of hs.2 hp2⟩
/-! THE PLAIN LAW, 13: the model reads a law -/
set_option maxRecDepth 100000
def kI (w m : Nat) : Int32 := if w = m then -1 else nI w
theorem cKind_le (w : List Nat) : cKind w ≤ 7 := by
  unfold cKind
  (repeat' split) <;> omega
theorem chere_e {σ : MSt} {tx : Nat → Nat} {n p : Nat} (h : MP σ tx n p) : dX4_clauseHere σ = some (kI (cKind (wd tx n (skB tx n p))) 7, m_sF σ 4 (nI (skB tx n p))) := by
  have hn := h.2.1
  obtain ⟨hp1, hp2⟩ := skB_le (tx := tx) h.2.2.2.2
  have hM := h.at hp2
  have hid := skB_idem (tx := tx) h.2.2.2.2
  unfold dX4_clauseHere
  rw [isWord_e [4, 5, 8, 19] h (by first | rfl | decide +kernel) (by decide) (by decide), wt_bd_s]
  generalize skB tx n p = q at hp1 hp2 hM hid
  dsimp only
  unfold cKind kI
  by_cases c0 : wd tx n q = [4, 5, 8, 19]
  · rw [if_pos c0, if_neg (by decide), if_pos c0, if_neg (by decide)]; rfl
  · rw [if_neg c0, if_pos rfl, if_neg c0, isWord_e [4, 12, 15, 8] hM (by first | rfl | decide +kernel) (by decide) (by decide), wt_bd_s, hid, sF_sF]
    dsimp only
    by_cases c1 : wd tx n q = [4, 12, 15, 8]
    · rw [if_pos c1, if_neg (by decide), if_pos c1, if_neg (by decide)]; rfl
    · rw [if_neg c1, if_pos rfl, if_neg c1, isWord_e [8, 19, 1, 23] hM (by first | rfl | decide +kernel) (by decide) (by decide), wt_bd_s, hid, sF_sF]
      dsimp only
      by_cases c2 : wd tx n q = [8, 19, 1, 23]
      · rw [if_pos c2, if_neg (by decide), if_pos c2, if_neg (by decide)]; rfl
      · rw [if_neg c2, if_pos rfl, if_neg c2, isWord_e [19, 19, 1, 16] hM (by first | rfl | decide +kernel) (by decide) (by decide), wt_bd_s, hid, sF_sF]
        dsimp only
        by_cases c3 : wd tx n q = [19, 19, 1, 16]
        · rw [if_pos c3, if_neg (by decide), if_pos c3, if_neg (by decide)]; rfl
        · rw [if_neg c3, if_pos rfl, if_neg c3, isWord_e [5, 11, 1, 20] hM (by first | rfl | decide +kernel) (by decide) (by decide), wt_bd_s, hid, sF_sF]
          dsimp only
          by_cases c4 : wd tx n q = [5, 11, 1, 20]
          · rw [if_pos c4, if_neg (by decide), if_pos c4, if_neg (by decide)]; rfl
          · rw [if_neg c4, if_pos rfl, if_neg c4, isWord_e [5, 11, 9, 12, 1] hM (by first | rfl | decide +kernel) (by decide) (by decide), wt_bd_s, hid, sF_sF]
            dsimp only
            by_cases c5 : wd tx n q = [5, 11, 9, 12, 1]
            · rw [if_pos c5, if_neg (by decide), if_pos c5, if_neg (by decide)]; rfl
            · rw [if_neg c5, if_pos rfl, if_neg c5, isWord_e [14, 15, 13, 13, 15, 3] hM (by first | rfl | decide +kernel) (by decide) (by decide), wt_bd_s, hid, sF_sF]
              dsimp only
              by_cases c6 : wd tx n q = [14, 15, 13, 13, 15, 3]
              · rw [if_pos c6, if_neg (by decide), if_pos c6, if_neg (by decide)]; rfl
              · rw [if_neg c6, if_pos rfl, if_neg c6, if_pos rfl]
/-- a value and a place, or a fault: as the model has it -/
def Stv (σ : MSt) (n : Nat) (r : PR (Nat × Nat)) (o : Int32 × MSt) : Prop := match r with
  | .inr vp => o = (nI vp.1, m_sF σ 4 (nI vp.2)) ∧ vp.2 ≤ n
  | .inl e => Fl o.2 e.1 e.2 ∧ mEp n [4, 5, 6] σ o.2
theorem pNum_ok {tx : Nat → Nat} {n lo hi p : Nat} {ne : Option Nat} {o : Nat × Nat} (hp : p ≤ n) (h : pNum tx n lo hi ne p = .inr o) : lo ≤ o.1 ∧ o.1 ≤ hi ∧ o.2 ≤ n ∧ ne ≠ some o.1 := by
  obtain ⟨h1, h2⟩ := skB_le (tx := tx) hp
  obtain ⟨h3, h4⟩ := skD_le (tx := tx) h2
  unfold pNum at h
  by_cases c : isD tx n (skB tx n p) = true
  · rw [if_pos c] at h
    by_cases c2 : nval tx n (skB tx n p) < lo ∨ hi < nval tx n (skB tx n p) ∨ ne = some (nval tx n (skB tx n p))
    · rw [if_pos c2] at h; cases h
    · rw [if_neg c2] at h
      cases h
      refine ⟨?_, ?_, h4, fun z => c2 (Or.inr (Or.inr z))⟩
      · show lo ≤ nval tx n (skB tx n p)
        rcases Nat.lt_or_ge (nval tx n (skB tx n p)) lo with z | z
        · exact absurd (Or.inl z) c2
        · exact z
      · show nval tx n (skB tx n p) ≤ hi
        rcases Nat.lt_or_ge hi (nval tx n (skB tx n p)) with z | z
        · exact absurd (Or.inr (Or.inl z)) c2
        · exact z
  · rw [if_neg c] at h; cases h
theorem pNum_f {tx : Nat → Nat} {n lo hi p : Nat} {ne : Option Nat} {e : Nat × Nat} (hp : p ≤ n) (h : pNum tx n lo hi ne p = .inl e) : 1 ≤ e.1 ∧ e.1 ≤ 3 ∧ e.2 ≤ n := by
  obtain ⟨h1, h2⟩ := skB_le (tx := tx) hp
  unfold pNum at h
  split at h
  · split at h
    · cases h; exact ⟨by show 1 ≤ 2; omega, by show 2 ≤ 3; omega, h2⟩
    · cases h
  · cases h; exact ⟨by show 1 ≤ 1; omega, by show 1 ≤ 3; omega, h2⟩
section MR
variable {σ : MSt} {tx : Nat → Nat} {n p0 : Nat}
theorem num_c (h : MP σ tx n p0) (h5 : σ.1 5 = 0) {r : PR (Nat × Nat)} {o : Int32 × MSt} {lo hi : Nat} {ne : Nat → Option Nat} {nt : Int32} (ho : Stv σ n r o) (hlo : lo ≤ 1000) (hhi : hi ≤ 1000) (hne : ∀ v p', r = .inr (v, p') → nt = ntI (ne v) ∧ ∀ s, ne v = some s → s ≤ 1000) :
    wp (dX4_number o.2 (nI lo) (nI hi) nt) (Stv σ n (pB r fun vp => pNum tx n lo hi (ne vp.1) vp.2)) := by
  cases r with
  | inl e =>
    obtain ⟨h1, h2⟩ := ho
    rw [num_f h1.ne, wp_some]
    exact ⟨h1, h2⟩
  | inr vp =>
    obtain ⟨v, p'⟩ := vp
    obtain ⟨h1, h2⟩ := ho
    obtain ⟨e1, e2⟩ := hne v p' rfl
    subst h1
    rw [e1]
    dsimp only at h2 ⊢
    have hM := h.at h2
    refine wp_mono (num_e (ne := ne v) hM (by rw [sF_1, if_neg (by omega)]; exact h5) hlo hhi e2) fun q hq => ?_
    show Stv σ n (pNum tx n lo hi (ne v) p') q
    revert hq
    cases pNum tx n lo hi (ne v) p' with
    | inl e =>
      rintro ⟨a1, a2⟩
      exact ⟨a1, (mE_sF (by simp)).trans a2.1, a2.2⟩
    | inr w =>
      rintro ⟨a1, a2, -⟩
      rw [sF_sF] at a1
      exact ⟨a1, a2⟩
theorem sign_c (h : MP σ tx n p0) (h5 : σ.1 5 = 0) {r : PR (Nat × Nat)} {o : Int32 × MSt} (ho : Stv σ n r o) : wp (dX4_sign o.2 59) (fun s => match pB r (fun vp => pSign tx n vp.2) with
      | .inr e => s = m_sF σ 4 (nI e) ∧ e ≤ n
      | .inl e => Fl s e.1 e.2 ∧ mEp n [4, 5, 6] σ s) := by
  cases r with
  | inl e =>
    obtain ⟨h1, h2⟩ := ho
    rw [sign_f h1.ne, wp_some]
    exact ⟨h1, h2⟩
  | inr vp =>
    obtain ⟨v, p'⟩ := vp
    obtain ⟨h1, h2⟩ := ho
    subst h1
    dsimp only at h2 ⊢
    have hM := h.at h2
    refine wp_mono (sign_e hM (by rw [sF_1, if_neg (by omega)]; exact h5)) fun q hq => ?_
    show match pSign tx n p' with
      | .inr e => q = m_sF σ 4 (nI e) ∧ e ≤ n
      | .inl e => Fl q e.1 e.2 ∧ mEp n [4, 5, 6] σ q
    revert hq
    cases pSign tx n p' with
    | inl e =>
      rintro ⟨a1, a2⟩
      exact ⟨a1, (mE_sF (by simp)).trans a2.1, a2.2⟩
    | inr w =>
      rintro ⟨a1, a2⟩
      rw [sF_sF] at a1
      exact ⟨a1, a2⟩
/-- what a clause does to the law that is read -/
def mEf (σ : MSt) (c : Nat × Nat × Nat × Nat) : MSt :=
  if c.1 = 0 then m_sG σ 20 c.2.1 c.2.2.1 (nI c.2.2.2)
  else if c.1 = 1 then m_sA σ 21 c.2.2.1 (nI c.2.2.2)
  else if c.1 = 2 then m_sF σ 17 (nI c.2.2.2)
  else if c.1 = 3 then m_sF σ 18 (nI c.2.2.2)
  else if c.1 = 4 then m_sF σ 19 (nI c.2.2.2)
  else if c.1 = 5 then m_sA (m_sA σ 23 c.2.2.1 (σ.2.1 23 c.2.2.1 ||| ((1 : Int32) <<< (nI c.2.2.2 &&& 31)))) 23 c.2.2.2 ((m_sA σ 23 c.2.2.1 (σ.2.1 23 c.2.2.1 ||| ((1 : Int32) <<< (nI c.2.2.2 &&& 31)))).2.1 23 c.2.2.2 ||| ((1 : Int32) <<< (nI c.2.2.1 &&& 31)))
  else m_sA σ 22 c.2.2.1 (nI c.2.2.2)
/-- the end of a clause: the sign, the count, what it does -/
theorem cl_tail {β : Type} {ncl : Nat} {r : PR (Nat × Nat)} {o : Int32 × MSt} {F G : MSt → Option β} {Q : β → Prop} (h : MP σ tx n p0) (h5 : σ.1 5 = 0) (h16 : σ.1 16 = nI ncl) (ho : Stv σ n r o)
    (hG : ∀ s e, pB r (fun vp => pSign tx n vp.2) = .inl e → Fl s e.1 e.2 → mEp n [4, 5, 6, 16] σ s → wp (G s) Q)
    (hF : ∀ e, pB r (fun vp => pSign tx n vp.2) = .inr e → e ≤ n → wp (F (m_sF (m_sF σ 4 (nI e)) 16 (nI (ncl + 1)))) Q) :
    wp (wt_bd (dX4_sign o.2 (59 : Int32)) fun w51 => wt_lt (m_sF w51 16 ((w51.1 16) + (1 : Int32))) fun σ53 => if (σ53.1 5) = 0 then F σ53 else G σ53) Q := by
  refine wp_ap (sign_c h h5 ho) fun s hs => ?_
  rw [wp_lt, wp_ite]
  revert hs hG hF
  cases pB r (fun vp => pSign tx n vp.2) with
  | inl e =>
    rintro hG - ⟨a1, a2⟩
    have a3 := a1.E (mE_sF (f := [16]) (a := []) (g := []) (k := 16) (v := s.1 16 + 1) (by simp)) (by simp) (by simp)
    rw [if_neg a3.ne]
    obtain ⟨a4, q, a5, a6⟩ := a2
    exact hG _ e rfl a3 ⟨(a4.wide (by simp) (by simp) (by simp)).trans (mE_sF (by simp)), q, a5, by rw [sF_1, if_neg (by omega)]; exact a6⟩
  | inr e =>
    rintro - hF ⟨a1, a2⟩
    subst a1
    have e1 : (m_sF σ 4 (nI e)).1 16 + 1 = nI (ncl + 1) := by
      rw [sF_1, if_neg (by omega), h16, nI_1]
    rw [e1, if_pos (by rw [sF_1, if_neg (by omega), sF_1, if_neg (by omega)]; exact h5)]
    exact hF e rfl a2
end MR
def COk (c : Nat × Nat × Nat × Nat) : Prop := c.1 < 7 ∧ c.2.1 ≤ 7 ∧ c.2.2.1 ≤ 9 ∧ (c.1 = 0 → c.2.2.2 ≤ 200) ∧ (c.1 = 1 → c.2.2.2 ≤ 16) ∧ (c.1 = 2 → c.2.2.2 ≤ 16) ∧ (c.1 = 3 → c.2.2.2 ≤ 8) ∧ (c.1 = 4 → 1 ≤ c.2.2.2 ∧ c.2.2.2 ≤ 15) ∧ (c.1 = 5 → c.2.2.2 ≤ 9 ∧ c.2.2.2 ≠ c.2.2.1) ∧ (c.1 = 6 → c.2.2.2 ≤ 20)
theorem pSign_ok {tx : Nat → Nat} {n p e : Nat} (h : pSign tx n p = .inr e) : e ≤ n := by
  unfold pSign at h
  split at h
  · cases h; rename_i c; exact c.1
  · cases h
theorem pB_inr {α β : Type} {x : PR α} {f : α → PR β} {b : β} (h : pB x f = .inr b) : ∃ a, x = .inr a ∧ f a = .inr b := by
  cases x with
  | inl e => cases h
  | inr a => exact ⟨a, rfl, h⟩
theorem pClause_ok {tx : Nat → Nat} {n ncl p : Nat} {c : Nat × Nat × Nat × Nat × Nat} (hp : p ≤ n) (h : pClause tx n ncl p = .inr c) : c.1 ≤ n ∧ COk c.2 := by
  obtain ⟨h1, h2⟩ := skB_le (tx := tx) hp
  obtain ⟨h3, h4⟩ := skL_le (tx := tx) h2
  have hk := cKind_le (wd tx n (skB tx n p))
  unfold pClause at h
  dsimp only at h
  generalize cKind (wd tx n (skB tx n p)) = w at h hk
  generalize skL tx n (skB tx n p) = q at h h3 h4
  by_cases c7 : w = 7
  · rw [if_pos c7] at h; cases h
  · rw [if_neg c7] at h
    by_cases c24 : ncl = 24
    · rw [if_pos c24] at h; cases h
    · rw [if_neg c24] at h
      obtain ⟨g, eg, h⟩ := pB_inr h
      obtain ⟨s, es, h⟩ := pB_inr h
      obtain ⟨v, ev, h⟩ := pB_inr h
      obtain ⟨e, ee, h⟩ := pB_inr h
      cases h
      have hg : g.1 ≤ 7 ∧ g.2 ≤ n := by
        by_cases z : w = 0
        · rw [if_pos z] at eg
          have := pNum_ok h4 eg
          omega
        · rw [if_neg z] at eg
          cases eg
          exact ⟨Nat.zero_le _, h4⟩
      have hs : s.1 ≤ 9 ∧ s.2 ≤ n := by
        by_cases z : w < 2 ∨ 4 < w
        · rw [if_pos z] at es
          have := pNum_ok hg.2 es
          omega
        · rw [if_neg z] at es
          cases es
          exact ⟨Nat.zero_le _, hg.2⟩
      refine ⟨pSign_ok ee, by show w < 7; omega, hg.1, hs.1, ?_⟩
      show (w = 0 → v.1 ≤ 200) ∧ (w = 1 → v.1 ≤ 16) ∧ (w = 2 → v.1 ≤ 16) ∧ (w = 3 → v.1 ≤ 8) ∧ (w = 4 → 1 ≤ v.1 ∧ v.1 ≤ 15) ∧ (w = 5 → v.1 ≤ 9 ∧ v.1 ≠ s.1) ∧ (w = 6 → v.1 ≤ 20)
      by_cases z : w = 5
      · rw [if_pos z] at ev
        have h5 := pNum_ok hs.2 ev
        have h6 : v.1 ≠ s.1 := fun q => h5.2.2.2 (by rw [q])
        refine ⟨fun q => by omega, fun q => by omega, fun q => by omega, fun q => by omega, fun q => by omega, fun _ => ⟨h5.2.1, h6⟩, fun q => by omega⟩
      · rw [if_neg z] at ev
        have h5 := pNum_ok hs.2 ev
        have e0 : w = 0 ∨ w = 1 ∨ w = 2 ∨ w = 3 ∨ w = 4 ∨ w = 6 := by omega
        rcases e0 with q | q | q | q | q | q <;> subst q <;> simp at h5 ⊢ <;> omega
theorem bd_eta {α β : Type} {x : Option (α × β)} : (wt_bd x fun w => some (w.1, w.2)) = x := by cases x <;> rfl
theorem bd_id {α : Type} {x : Option α} : (wt_bd x fun w => some w) = x := by cases x <;> rfl
theorem stv_0 {σ : MSt} {n p : Nat} (h : p ≤ n) : Stv σ n (.inr (0, p)) (0, m_sF σ 4 (nI p)) := ⟨rfl, h⟩
theorem stv_s {σ : MSt} {n : Nat} {r : PR (Nat × Nat)} {o : Int32 × MSt} (h : Stv σ n r o) : Stv σ n (pB r fun vp => .inr (0, vp.2)) (0, o.2) := by
  cases r with
  | inl e => exact h
  | inr vp =>
    obtain ⟨h1, h2⟩ := h
    exact ⟨by rw [h1]; rfl, h2⟩
theorem stv_v {σ : MSt} {n : Nat} {r : PR (Nat × Nat)} {o : Int32 × MSt} {g : Nat × Nat} (h : Stv σ n r o) (e : r = .inr g) : o.1 = nI g.1 := by
  subst e
  rw [h.1]
theorem pc_f {X : PR (Nat × Nat)} {f1 f2 : Nat × Nat → PR (Nat × Nat)} {sg : Nat → PR Nat} {w : Nat} {e : Nat × Nat} (h : pB (pB (pB X f1) f2) (fun vp => sg vp.2) = .inl e) : (pB X fun g => pB (f1 g) fun s => pB (f2 s) fun v => pB (sg v.2) fun z => (Sum.inr (z, w, g.1, s.1, v.1) : PR (Nat × Nat × Nat × Nat × Nat))) = .inl e := by
  revert h
  cases X with
  | inl a => intro h; cases h; rfl
  | inr g =>
    intro h
    show (pB (f1 g) fun s => pB (f2 s) fun v => pB (sg v.2) fun z => (Sum.inr (z, w, g.1, s.1, v.1) : PR (Nat × Nat × Nat × Nat × Nat))) = .inl e
    have h : pB (pB (f1 g) f2) (fun vp => sg vp.2) = .inl e := h
    revert h
    cases f1 g with
    | inl a => intro h; cases h; rfl
    | inr s =>
      intro h
      show (pB (f2 s) fun v => pB (sg v.2) fun z => (Sum.inr (z, w, g.1, s.1, v.1) : PR (Nat × Nat × Nat × Nat × Nat))) = .inl e
      have h : pB (f2 s) (fun vp => sg vp.2) = .inl e := h
      revert h
      cases f2 s with
      | inl a => intro h; cases h; rfl
      | inr v =>
        intro h
        show (pB (sg v.2) fun z => (Sum.inr (z, w, g.1, s.1, v.1) : PR (Nat × Nat × Nat × Nat × Nat))) = .inl e
        have h : sg v.2 = .inl e := h
        rw [h]; rfl
theorem pc_r {X : PR (Nat × Nat)} {f1 f2 : Nat × Nat → PR (Nat × Nat)} {sg : Nat → PR Nat} {w e : Nat} (h : pB (pB (pB X f1) f2) (fun vp => sg vp.2) = .inr e) : ∃ g s v, X = .inr g ∧ pB X f1 = .inr s ∧ pB (pB X f1) f2 = .inr v ∧ (pB X fun g => pB (f1 g) fun s => pB (f2 s) fun v => pB (sg v.2) fun z => (Sum.inr (z, w, g.1, s.1, v.1) : PR (Nat × Nat × Nat × Nat × Nat))) = .inr (e, w, g.1, s.1, v.1) := by
  obtain ⟨v, h1, h2⟩ := pB_inr h
  obtain ⟨s, h3, h4⟩ := pB_inr h1
  obtain ⟨g, h5, h6⟩ := pB_inr h3
  refine ⟨g, s, v, h5, h3, h1, ?_⟩
  rw [h5]
  show (pB (f1 g) fun s => pB (f2 s) fun v => pB (sg v.2) fun z => (Sum.inr (z, w, g.1, s.1, v.1) : PR (Nat × Nat × Nat × Nat × Nat))) = _
  rw [h6]
  show (pB (f2 s) fun v => pB (sg v.2) fun z => (Sum.inr (z, w, g.1, s.1, v.1) : PR (Nat × Nat × Nat × Nat × Nat))) = _
  rw [h4]
  show (pB (sg v.2) fun z => (Sum.inr (z, w, g.1, s.1, v.1) : PR (Nat × Nat × Nat × Nat × Nat))) = _
  rw [h2]; rfl
/-- the outcome of a clause in the model -/
def ClQ (σ : MSt) (n ncl : Nat) (r : PR (Nat × Nat × Nat × Nat × Nat)) (s : MSt) : Prop := match r with
  | .inr c => s = mEf (m_sF (m_sF σ 4 (nI c.1)) 16 (nI (ncl + 1))) c.2
  | .inl e => Fl s e.1 e.2 ∧ mEp n [4, 5, 6, 16] σ s
theorem ClQ_f {σ s : MSt} {n ncl : Nat} {r : PR (Nat × Nat × Nat × Nat × Nat)} {e : Nat × Nat} (h : r = .inl e) (h1 : Fl s e.1 e.2) (h2 : mEp n [4, 5, 6, 16] σ s) : ClQ σ n ncl r s := by subst h; exact ⟨h1, h2⟩
theorem ClQ_r {σ s : MSt} {n ncl : Nat} {r : PR (Nat × Nat × Nat × Nat × Nat)} {c : Nat × Nat × Nat × Nat × Nat} (h : r = .inr c) (h1 : s = mEf (m_sF (m_sF σ 4 (nI c.1)) 16 (nI (ncl + 1))) c.2) : ClQ σ n ncl r s := by subst h; exact h1
theorem clause_e {σ : MSt} {tx : Nat → Nat} {n p ncl : Nat} (h : MP σ tx n p) (h5 : σ.1 5 = 0) (h16 : σ.1 16 = nI ncl) (hncl : ncl ≤ 24) : wp (dX4_clause σ) (ClQ σ n ncl (pClause tx n ncl p)) := by
  have hn := h.2.1
  obtain ⟨hp1, hp2⟩ := skB_le (tx := tx) h.2.2.2.2
  obtain ⟨hq1, hq2⟩ := skL_le (tx := tx) hp2
  have hk := cKind_le (wd tx n (skB tx n p))
  have hok := fun c => pClause_ok (tx := tx) (ncl := ncl) (c := c) h.2.2.2.2
  have hM := h.at hp2
  unfold dX4_clause
  rw [chere_e h, wt_bd_s]
  revert hok
  unfold pClause
  dsimp only
  generalize cKind (wd tx n (skB tx n p)) = w at hk
  have hskip := skip_e hM
  generalize skB tx n p = q at hp1 hp2 hq1 hq2 hM hskip
  intro hok
  have h5' : (m_sF σ 4 (nI q)).1 5 = 0 := by rw [sF_1, if_neg (by omega)]; exact h5
  have h16' : (m_sF σ 4 (nI q)).1 16 = nI ncl := by rw [sF_1, if_neg (by omega)]; exact h16
  have h4' : (m_sF σ 4 (nI q)).1 4 = nI q := by rw [sF_1, if_pos rfl]
  by_cases c7 : w = 7
  · rw [if_pos c7]
    unfold kI
    rw [if_pos c7, if_pos rfl, h4', wp_bd, wp_bd]
    refine wp_mono (wrong_y (k := 1) h5' (by omega) (by omega)) fun s hs => ?_
    rw [wp_some, wp_ite, if_neg hs.1.ne, wp_some]
    exact ClQ_f rfl hs.1 ⟨(mE_sF (by simp)).trans (hs.2.wide (by simp) (by simp) (by simp)), q, hp2, by rw [hs.2.1 4 (by simp)]; exact h4'⟩
  · rw [if_neg c7] at hok ⊢
    have ek : kI w 7 = nI w := if_neg c7
    rw [ek, if_neg (by rw [nI_neg (by omega)]; exact id), h16', h4']
    by_cases c24 : ncl = 24
    · rw [if_pos c24, if_pos (by rw [c24]; rfl), wp_bd, wp_bd]
      refine wp_mono (wrong_y (k := 3) h5' (by omega) (by omega)) fun s hs => ?_
      rw [wp_some, wp_ite, if_neg hs.1.ne, wp_some]
      exact ClQ_f rfl hs.1 ⟨(mE_sF (by simp)).trans (hs.2.wide (by simp) (by simp) (by simp)), q, hp2, by rw [hs.2.1 4 (by simp)]; exact h4'⟩
    · rw [if_neg c24] at hok ⊢
      rw [if_neg (show ¬ nI ncl = (24 : Int32) from fun z => c24 ((nI_eq (b := 24) (by omega) (by omega)).mp z)), wt_bd_s, wp_ite, if_pos h5', hskip, wt_bd_s, sF_sF]
      generalize skL tx n q = p1 at hq1 hq2 hok
      have hw : w = 0 ∨ w = 1 ∨ w = 2 ∨ w = 3 ∨ w = 4 ∨ w = 5 ∨ w = 6 := by omega
      rcases hw with c | c | c | c | c | c | c <;> subst c
      · simp only [(eq_true (by decide) : (nI 0 = (0 : Int32)) = True), (eq_false (by decide) : (nI 0 = (1 : Int32)) = False), (eq_false (by decide) : (nI 0 = (2 : Int32)) = False), (eq_false (by decide) : (nI 0 = (3 : Int32)) = False), (eq_false (by decide) : (nI 0 = (4 : Int32)) = False), (eq_false (by decide) : (nI 0 = (5 : Int32)) = False), (eq_false (by decide) : (nI 0 = (6 : Int32)) = False), (eq_true (by decide) : (nI 0 < (2 : Int32)) = True), (eq_true (by decide) : (nI 0 ≤ (4 : Int32)) = True), if_true, if_false, wt_bd_s, rs_l, rs_r, bd_eta, bd_id]
        simp only [(eq_true (by decide) : ((0 : Nat) = 0) = True), (eq_false (by decide) : ((0 : Nat) = 3) = False), (eq_false (by decide) : ((0 : Nat) = 4) = False), (eq_false (by decide) : ((0 : Nat) = 5) = False), (eq_false (by decide) : ((0 : Nat) = 6) = False), (eq_true (by decide) : ((0 : Nat) < 2 ∨ 4 < (0 : Nat)) = True), if_true, if_false] at hok ⊢
        refine wp_ap (num_c (lo := 0) (hi := 7) (ne := fun _ => none) h h5 (stv_0 hq2) (by omega) (by omega) fun v p' _ => ⟨rfl, fun s z => by cases z⟩) fun o1 ho1 => ?_
        refine wp_ap (num_c (lo := 0) (hi := 9) (ne := fun _ => none) h h5 ho1 (by omega) (by omega) fun v p' _ => ⟨rfl, fun s z => by cases z⟩) fun o2 ho2 => ?_
        refine wp_ap (num_c (lo := 0) (hi := 200) (ne := fun _ => none) h h5 ho2 (by omega) (by omega) fun v p' _ => ⟨rfl, fun s z => by cases z⟩) fun o3 ho3 => ?_
        refine cl_tail h h5 h16 ho3 (fun s e he hFl hE => ?_) (fun e he hle => ?_)
        · rw [wp_some]
          exact ClQ_f (pc_f (w := 0) he) hFl hE
        · obtain ⟨g, s, v, e1, e2, e3, e4⟩ := pc_r (w := 0) he
          have hc := (hok _ e4).2
          obtain ⟨-, b1, b2, b3, b4, b5, b6, b7, b8, b9⟩ := hc
          dsimp only at b1 b2 b3 b4 b5 b6 b7 b8 b9
          have v3 := stv_v ho3 e3
          have v2 := stv_v ho2 e2
          have v1 := stv_v ho1 e1
          rw [v1, v2, v3, vp_nI (by omega), vp_nI (by omega), wt_ck_t (by omega), wt_ck_t (by omega), nI_clamp (by omega), nI_clamp (by omega), wp_lt_id, wp_some]
          exact ClQ_r e4 rfl
      · simp only [(eq_false (by decide) : (nI 1 = (0 : Int32)) = False), (eq_true (by decide) : (nI 1 = (1 : Int32)) = True), (eq_false (by decide) : (nI 1 = (2 : Int32)) = False), (eq_false (by decide) : (nI 1 = (3 : Int32)) = False), (eq_false (by decide) : (nI 1 = (4 : Int32)) = False), (eq_false (by decide) : (nI 1 = (5 : Int32)) = False), (eq_false (by decide) : (nI 1 = (6 : Int32)) = False), (eq_true (by decide) : (nI 1 < (2 : Int32)) = True), (eq_true (by decide) : (nI 1 ≤ (4 : Int32)) = True), if_true, if_false, wt_bd_s, rs_l, rs_r, bd_eta, bd_id]
        simp only [(eq_false (by decide) : ((1 : Nat) = 0) = False), (eq_false (by decide) : ((1 : Nat) = 3) = False), (eq_false (by decide) : ((1 : Nat) = 4) = False), (eq_false (by decide) : ((1 : Nat) = 5) = False), (eq_false (by decide) : ((1 : Nat) = 6) = False), (eq_true (by decide) : ((1 : Nat) < 2 ∨ 4 < (1 : Nat)) = True), if_true, if_false] at hok ⊢
        have ho1 := stv_0 (σ := σ) hq2
        refine wp_ap (num_c (lo := 0) (hi := 9) (ne := fun _ => none) h h5 ho1 (by omega) (by omega) fun v p' _ => ⟨rfl, fun s z => by cases z⟩) fun o2 ho2 => ?_
        refine wp_ap (num_c (lo := 0) (hi := 16) (ne := fun _ => none) h h5 ho2 (by omega) (by omega) fun v p' _ => ⟨rfl, fun s z => by cases z⟩) fun o3 ho3 => ?_
        refine cl_tail h h5 h16 ho3 (fun s e he hFl hE => ?_) (fun e he hle => ?_)
        · rw [wp_some]
          exact ClQ_f (pc_f (w := 1) he) hFl hE
        · obtain ⟨g, s, v, e1, e2, e3, e4⟩ := pc_r (w := 1) he
          have hc := (hok _ e4).2
          obtain ⟨-, b1, b2, b3, b4, b5, b6, b7, b8, b9⟩ := hc
          dsimp only at b1 b2 b3 b4 b5 b6 b7 b8 b9
          have v3 := stv_v ho3 e3
          have v2 := stv_v ho2 e2
          rw [v2, v3, vp_nI (by omega), wt_ck_t (by omega), nI_clamp (by omega), wp_lt_id, wp_some]
          exact ClQ_r e4 rfl
      · simp only [(eq_false (by decide) : (nI 2 = (0 : Int32)) = False), (eq_false (by decide) : (nI 2 = (1 : Int32)) = False), (eq_true (by decide) : (nI 2 = (2 : Int32)) = True), (eq_false (by decide) : (nI 2 = (3 : Int32)) = False), (eq_false (by decide) : (nI 2 = (4 : Int32)) = False), (eq_false (by decide) : (nI 2 = (5 : Int32)) = False), (eq_false (by decide) : (nI 2 = (6 : Int32)) = False), (eq_false (by decide) : (nI 2 < (2 : Int32)) = False), (eq_true (by decide) : (nI 2 ≤ (4 : Int32)) = True), if_true, if_false, wt_bd_s, rs_l, rs_r, bd_eta, bd_id]
        simp only [(eq_false (by decide) : ((2 : Nat) = 0) = False), (eq_false (by decide) : ((2 : Nat) = 3) = False), (eq_false (by decide) : ((2 : Nat) = 4) = False), (eq_false (by decide) : ((2 : Nat) = 5) = False), (eq_false (by decide) : ((2 : Nat) = 6) = False), (eq_false (by decide) : ((2 : Nat) < 2 ∨ 4 < (2 : Nat)) = False), if_true, if_false] at hok ⊢
        have ho1 := stv_0 (σ := σ) hq2
        have ho2 := stv_s ho1
        rw [wp_bd]
        refine wp_ap (num_c (lo := 0) (hi := 16) (ne := fun _ => none) h h5 ho2 (by omega) (by omega) fun v p' _ => ⟨rfl, fun s z => by cases z⟩) fun o3 ho3 => ?_
        refine cl_tail h h5 h16 ho3 (fun s e he hFl hE => ?_) (fun e he hle => ?_)
        · rw [wp_some, rs_r, wp_some]
          exact ClQ_f (pc_f (w := 2) he) hFl hE
        · obtain ⟨g, s, v, e1, e2, e3, e4⟩ := pc_r (w := 2) he
          have hc := (hok _ e4).2
          obtain ⟨-, b1, b2, b3, b4, b5, b6, b7, b8, b9⟩ := hc
          dsimp only at b1 b2 b3 b4 b5 b6 b7 b8 b9
          have v3 := stv_v ho3 e3
          rw [v3, wp_lt_id, wt_bd_s, wp_some, rs_r, wp_some]
          exact ClQ_r e4 rfl
      · simp only [(eq_false (by decide) : (nI 3 = (0 : Int32)) = False), (eq_false (by decide) : (nI 3 = (1 : Int32)) = False), (eq_false (by decide) : (nI 3 = (2 : Int32)) = False), (eq_true (by decide) : (nI 3 = (3 : Int32)) = True), (eq_false (by decide) : (nI 3 = (4 : Int32)) = False), (eq_false (by decide) : (nI 3 = (5 : Int32)) = False), (eq_false (by decide) : (nI 3 = (6 : Int32)) = False), (eq_false (by decide) : (nI 3 < (2 : Int32)) = False), (eq_true (by decide) : (nI 3 ≤ (4 : Int32)) = True), if_true, if_false, wt_bd_s, rs_l, rs_r, bd_eta, bd_id]
        simp only [(eq_false (by decide) : ((3 : Nat) = 0) = False), (eq_true (by decide) : ((3 : Nat) = 3) = True), (eq_false (by decide) : ((3 : Nat) = 4) = False), (eq_false (by decide) : ((3 : Nat) = 5) = False), (eq_false (by decide) : ((3 : Nat) = 6) = False), (eq_false (by decide) : ((3 : Nat) < 2 ∨ 4 < (3 : Nat)) = False), if_true, if_false] at hok ⊢
        have ho1 := stv_0 (σ := σ) hq2
        have ho2 := stv_s ho1
        rw [wp_bd]
        refine wp_ap (num_c (lo := 0) (hi := 8) (ne := fun _ => none) h h5 ho2 (by omega) (by omega) fun v p' _ => ⟨rfl, fun s z => by cases z⟩) fun o3 ho3 => ?_
        refine cl_tail h h5 h16 ho3 (fun s e he hFl hE => ?_) (fun e he hle => ?_)
        · rw [wp_some, rs_r, wp_some]
          exact ClQ_f (pc_f (w := 3) he) hFl hE
        · obtain ⟨g, s, v, e1, e2, e3, e4⟩ := pc_r (w := 3) he
          have hc := (hok _ e4).2
          obtain ⟨-, b1, b2, b3, b4, b5, b6, b7, b8, b9⟩ := hc
          dsimp only at b1 b2 b3 b4 b5 b6 b7 b8 b9
          have v3 := stv_v ho3 e3
          rw [v3, wp_lt_id, wt_bd_s, wp_some, rs_r, wp_some]
          exact ClQ_r e4 rfl
      · simp only [(eq_false (by decide) : (nI 4 = (0 : Int32)) = False), (eq_false (by decide) : (nI 4 = (1 : Int32)) = False), (eq_false (by decide) : (nI 4 = (2 : Int32)) = False), (eq_false (by decide) : (nI 4 = (3 : Int32)) = False), (eq_true (by decide) : (nI 4 = (4 : Int32)) = True), (eq_false (by decide) : (nI 4 = (5 : Int32)) = False), (eq_false (by decide) : (nI 4 = (6 : Int32)) = False), (eq_false (by decide) : (nI 4 < (2 : Int32)) = False), (eq_true (by decide) : (nI 4 ≤ (4 : Int32)) = True), if_true, if_false, wt_bd_s, rs_l, rs_r, bd_eta, bd_id]
        simp only [(eq_false (by decide) : ((4 : Nat) = 0) = False), (eq_false (by decide) : ((4 : Nat) = 3) = False), (eq_true (by decide) : ((4 : Nat) = 4) = True), (eq_false (by decide) : ((4 : Nat) = 5) = False), (eq_false (by decide) : ((4 : Nat) = 6) = False), (eq_false (by decide) : ((4 : Nat) < 2 ∨ 4 < (4 : Nat)) = False), if_true, if_false] at hok ⊢
        have ho1 := stv_0 (σ := σ) hq2
        have ho2 := stv_s ho1
        rw [wp_bd]
        refine wp_ap (num_c (lo := 1) (hi := 15) (ne := fun _ => none) h h5 ho2 (by omega) (by omega) fun v p' _ => ⟨rfl, fun s z => by cases z⟩) fun o3 ho3 => ?_
        refine cl_tail h h5 h16 ho3 (fun s e he hFl hE => ?_) (fun e he hle => ?_)
        · rw [wp_some, rs_r, wp_some]
          exact ClQ_f (pc_f (w := 4) he) hFl hE
        · obtain ⟨g, s, v, e1, e2, e3, e4⟩ := pc_r (w := 4) he
          have hc := (hok _ e4).2
          obtain ⟨-, b1, b2, b3, b4, b5, b6, b7, b8, b9⟩ := hc
          dsimp only at b1 b2 b3 b4 b5 b6 b7 b8 b9
          have v3 := stv_v ho3 e3
          rw [v3, wp_lt_id, wt_bd_s, wp_some, rs_r, wp_some]
          exact ClQ_r e4 rfl
      · simp only [(eq_false (by decide) : (nI 5 = (0 : Int32)) = False), (eq_false (by decide) : (nI 5 = (1 : Int32)) = False), (eq_false (by decide) : (nI 5 = (2 : Int32)) = False), (eq_false (by decide) : (nI 5 = (3 : Int32)) = False), (eq_false (by decide) : (nI 5 = (4 : Int32)) = False), (eq_true (by decide) : (nI 5 = (5 : Int32)) = True), (eq_false (by decide) : (nI 5 = (6 : Int32)) = False), (eq_false (by decide) : (nI 5 < (2 : Int32)) = False), (eq_false (by decide) : (nI 5 ≤ (4 : Int32)) = False), if_true, if_false, wt_bd_s, rs_l, rs_r, bd_eta, bd_id]
        simp only [(eq_false (by decide) : ((5 : Nat) = 0) = False), (eq_false (by decide) : ((5 : Nat) = 3) = False), (eq_false (by decide) : ((5 : Nat) = 4) = False), (eq_true (by decide) : ((5 : Nat) = 5) = True), (eq_false (by decide) : ((5 : Nat) = 6) = False), (eq_true (by decide) : ((5 : Nat) < 2 ∨ 4 < (5 : Nat)) = True), if_true, if_false] at hok ⊢
        have ho1 := stv_0 (σ := σ) hq2
        refine wp_ap (num_c (lo := 0) (hi := 9) (ne := fun _ => none) h h5 ho1 (by omega) (by omega) fun v p' _ => ⟨rfl, fun s z => by cases z⟩) fun o2 ho2 => ?_
        refine wp_ap (num_c (lo := 0) (hi := 9) (ne := fun s => some s) h h5 ho2 (by omega) (by omega) fun v p' e => ⟨stv_v ho2 e, fun s z => by
          cases z
          have z2 := (pNum_ok hq2 (show pNum tx n 0 9 none p1 = _ from e)).2.1
          dsimp only at z2
          omega⟩) fun o3 ho3 => ?_
        refine cl_tail h h5 h16 ho3 (fun s e he hFl hE => ?_) (fun e he hle => ?_)
        · rw [wp_some]
          exact ClQ_f (pc_f (w := 5) he) hFl hE
        · obtain ⟨g, s, v, e1, e2, e3, e4⟩ := pc_r (w := 5) he
          have hc := (hok _ e4).2
          obtain ⟨-, b1, b2, b3, b4, b5, b6, b7, b8, b9⟩ := hc
          dsimp only at b1 b2 b3 b4 b5 b6 b7 b8 b9
          have v3 := stv_v ho3 e3
          have v2 := stv_v ho2 e2
          have b8 := b8 rfl
          rw [v2, v3, vp_nI (by omega), vp_nI (by omega), wt_ck_t (by omega), wt_ck_t (by omega), nI_clamp (by omega), nI_clamp (by omega), wp_lt_id, wt_ck_t (by omega), wt_ck_t (by omega), wp_lt_id, wp_some]
          exact ClQ_r e4 rfl
      · simp only [(eq_false (by decide) : (nI 6 = (0 : Int32)) = False), (eq_false (by decide) : (nI 6 = (1 : Int32)) = False), (eq_false (by decide) : (nI 6 = (2 : Int32)) = False), (eq_false (by decide) : (nI 6 = (3 : Int32)) = False), (eq_false (by decide) : (nI 6 = (4 : Int32)) = False), (eq_false (by decide) : (nI 6 = (5 : Int32)) = False), (eq_true (by decide) : (nI 6 = (6 : Int32)) = True), (eq_false (by decide) : (nI 6 < (2 : Int32)) = False), (eq_false (by decide) : (nI 6 ≤ (4 : Int32)) = False), if_true, if_false, wt_bd_s, rs_l, rs_r, bd_eta, bd_id]
        simp only [(eq_false (by decide) : ((6 : Nat) = 0) = False), (eq_false (by decide) : ((6 : Nat) = 3) = False), (eq_false (by decide) : ((6 : Nat) = 4) = False), (eq_false (by decide) : ((6 : Nat) = 5) = False), (eq_true (by decide) : ((6 : Nat) = 6) = True), (eq_true (by decide) : ((6 : Nat) < 2 ∨ 4 < (6 : Nat)) = True), if_true, if_false] at hok ⊢
        have ho1 := stv_0 (σ := σ) hq2
        refine wp_ap (num_c (lo := 0) (hi := 9) (ne := fun _ => none) h h5 ho1 (by omega) (by omega) fun v p' _ => ⟨rfl, fun s z => by cases z⟩) fun o2 ho2 => ?_
        refine wp_ap (num_c (lo := 0) (hi := 20) (ne := fun _ => none) h h5 ho2 (by omega) (by omega) fun v p' _ => ⟨rfl, fun s z => by cases z⟩) fun o3 ho3 => ?_
        refine cl_tail h h5 h16 ho3 (fun s e he hFl hE => ?_) (fun e he hle => ?_)
        · rw [wp_some]
          exact ClQ_f (pc_f (w := 6) he) hFl hE
        · obtain ⟨g, s, v, e1, e2, e3, e4⟩ := pc_r (w := 6) he
          have hc := (hok _ e4).2
          obtain ⟨-, b1, b2, b3, b4, b5, b6, b7, b8, b9⟩ := hc
          dsimp only at b1 b2 b3 b4 b5 b6 b7 b8 b9
          have v3 := stv_v ho3 e3
          have v2 := stv_v ho2 e2
          rw [v2, v3, vp_nI (by omega), wt_ck_t (by omega), nI_clamp (by omega), wp_lt_id, wp_some]
          exact ClQ_r e4 rfl
/-! THE PLAIN LAW, 14: the model reads a law to its end -/
set_option maxRecDepth 100000
theorem mEf_E {σ : MSt} {c : Nat × Nat × Nat × Nat} : mE [17, 18, 19] [21, 22, 23] [20] σ (mEf σ c) := by
  unfold mEf
  (repeat' split) <;> first | exact mE_sG (by simp) | exact mE_sA (by simp) | exact mE_sF (by simp) | exact (mE_sA (by simp)).trans (mE_sA (by simp))
/-- the loop over the clauses: the state by all that were read, and the place; or a fault -/
def mRd (σ : MSt) : List (Nat × Nat × Nat × Nat) → Nat → MSt
  | [], _ => σ
  | c :: l, k => mRd (mEf (m_sF σ 16 (nI (k + 1))) c) l (k + 1)
theorem mRd_E : ∀ (l : List (Nat × Nat × Nat × Nat)) (σ : MSt) (k : Nat), mE [16, 17, 18, 19] [21, 22, 23] [20] σ (mRd σ l k) := by
  intro l
  induction l with
  | nil => intro σ k; exact mE.rfl
  | cons c l ih =>
    intro σ k
    exact ((mE_sF (by simp)).trans (mEf_E.wide (by simp) (by simp) (by simp))).trans (ih _ _)
theorem mE.symm' {f a g : List Nat} {x y : MSt} (h : mE f a g x y) : mE f a g y x := ⟨fun k hk => (h.1 k hk).symm, fun k hk => (h.2.1 k hk).symm, fun k hk => (h.2.2 k hk).symm⟩
theorem mEf_sF {σ : MSt} {c : Nat × Nat × Nat × Nat} {k : Nat} {v : Int32} (hk : k ≠ 17 ∧ k ≠ 18 ∧ k ≠ 19) : mEf (m_sF σ k v) c = m_sF (mEf σ c) k v := by
  have hF : ∀ {j : Nat} {u : Int32}, j ≠ k → m_sF (m_sF σ k v) j u = m_sF (m_sF σ j u) k v := fun {j u} hj => mst_ext (fun q => by
    rw [sF_1, sF_1, sF_1, sF_1]
    by_cases e : q = j
    · rw [if_pos e, if_neg (fun z => hj (e.symm.trans z)), if_pos e]
    · rw [if_neg e, if_neg e]) (fun _ _ => rfl) (fun _ _ _ => rfl)
  unfold mEf
  split
  · rfl
  · split
    · rfl
    · split
      · exact hF (by omega)
      · split
        · exact hF (by omega)
        · split
          · exact hF (by omega)
          · split
            · rfl
            · rfl
theorem sF_cm {σ : MSt} {j k : Nat} {u v : Int32} (h : j ≠ k) : m_sF (m_sF σ j u) k v = m_sF (m_sF σ k v) j u := mst_ext (fun q => by
  simp only [sF_1]
  (repeat' split) <;> first | rfl | (exfalso; omega)) (fun _ _ => rfl) (fun _ _ _ => rfl)
theorem mRd_4 : ∀ (l : List (Nat × Nat × Nat × Nat)) (σ : MSt) (k : Nat) (v : Int32), mRd (m_sF σ 4 v) l k = m_sF (mRd σ l k) 4 v := by
  intro l
  induction l with
  | nil => intro σ k v; rfl
  | cons c l ih =>
    intro σ k v
    show mRd (mEf (m_sF (m_sF σ 4 v) 16 (nI (k + 1))) c) l (k + 1) = m_sF (mRd (mEf (m_sF σ 16 (nI (k + 1))) c) l (k + 1)) 4 v
    rw [sF_cm (by omega), mEf_sF (by omega), ih]
theorem mRd_16 : ∀ (l : List (Nat × Nat × Nat × Nat)) (σ : MSt) (k : Nat), σ.1 16 = nI k → (mRd σ l k).1 16 = nI (k + l.length) := by
  intro l
  induction l with
  | nil => intro σ k h; exact h
  | cons c l ih =>
    intro σ k h
    show (mRd (mEf (m_sF σ 16 (nI (k + 1))) c) l (k + 1)).1 16 = _
    rw [ih _ _ (by rw [mEf_E.1 16 (by simp), sF_1, if_pos rfl]), List.length_cons]
    exact congrArg nI (by omega)
/-- the outcome of all clauses -/
def LwQ (σ : MSt) (k : Nat) (r : PR (List (Nat × Nat × Nat × Nat))) (s : MSt) : Prop := match r with
  | .inr l => ∃ p, s = m_sF (mRd σ l k) 4 p
  | .inl e => Fl s e.1 e.2 ∧ mE [4, 5, 6, 16, 17, 18, 19] [21, 22, 23] [20] σ s
theorem pClause_24 {tx : Nat → Nat} {n p : Nat} : ∃ e, pClause tx n 24 p = .inl e := by
  unfold pClause
  dsimp only
  by_cases c : cKind (wd tx n (skB tx n p)) = 7
  · exact ⟨_, by rw [if_pos c]⟩
  · exact ⟨_, by rw [if_neg c, if_pos rfl]⟩
theorem MP.to {f a g : List Nat} {σ s : MSt} {tx : Nat → Nat} {n p q : Nat} (h : MP σ tx n p) (hE : mE f a g σ s) (h2 : 2 ∉ f) (h7 : 7 ∉ a) (h4 : s.1 4 = nI q) (hq : q ≤ n) : MP s tx n q := ⟨by rw [hE.1 2 h2]; exact h.1, h.2.1, by rw [hE.2.1 7 h7]; exact h.2.2.1, h4, hq⟩
theorem mclauses {tx : Nat → Nat} {n : Nat} : ∀ (f k p : Nat) (σ : MSt), f + k = 25 → k ≤ 24 → MP σ tx n p → σ.1 5 = 0 → σ.1 16 = nI k → wp (wt_whC bX4_law_3 σ) (LwQ σ k (pLaw tx n f k p)) := by
  intro f
  induction f with
  | zero => intro k p σ hk hk2; omega
  | succ f ih =>
    intro k p σ hk hk2 h h5 h16
    have hn := h.2.1
    unfold pLaw
    by_cases c : n ≤ p
    · rw [if_pos c]
      refine ⟨σ, wt_whC_e ?_, nI p, h.self.symm⟩
      unfold bX4_law_3
      rw [if_pos h5, if_pos (by rw [h.1, h.2.2.2.1]; exact nI_le c (by have := h.2.2.2.2; omega))]
    · rw [if_neg c]
      obtain ⟨s, hs, hq⟩ := clause_e h h5 h16 (by omega)
      have hF : bX4_law_3 σ = wt_bd (dX4_blanks s) fun w65 => some (.inl w65) := by
        unfold bX4_law_3
        rw [if_pos h5, if_neg (by rw [h.1, h.2.2.2.1]; exact nI_ge (by omega) (by omega)), hs, wt_bd_s]
      cases hc : pClause tx n k p with
      | inl e =>
        rw [hc] at hq
        obtain ⟨a1, a2, q, a3, a4⟩ := hq
        have hM : MP s tx n q := h.to a2 (by simp) (by simp) a4 a3
        have a5 := a1.E (mE_sF (f := [4]) (a := []) (g := []) (k := 4) (v := nI (skB tx n q)) (by simp)) (by simp) (by simp)
        refine ⟨m_sF s 4 (nI (skB tx n q)), wt_whC_i (v' := m_sF s 4 (nI (skB tx n q))) (by rw [hF, blanks_e hM, wt_bd_s]) (wt_whC_e ?_), a5, (a2.wide (by simp) (by simp) (by simp)).trans (mE_sF (by simp))⟩
        unfold bX4_law_3
        rw [if_neg a5.ne]
      | inr c =>
        rw [hc] at hq
        obtain ⟨b1, b2⟩ := pClause_ok h.2.2.2.2 hc
        have hk24 : k ≠ 24 := by
          intro z
          subst z
          obtain ⟨e, he⟩ := pClause_24 (tx := tx) (n := n) (p := p)
          rw [he] at hc
          cases hc
        have hq : s = mEf (m_sF (m_sF σ 4 (nI c.1)) 16 (nI (k + 1))) c.2 := hq
        have e1 : s = m_sF (mEf (m_sF σ 16 (nI (k + 1))) c.2) 4 (nI c.1) := by rw [hq, sF_cm (by omega), mEf_sF (by omega)]
        have hE0 : mE [16, 17, 18, 19] [21, 22, 23] [20] σ (mEf (m_sF σ 16 (nI (k + 1))) c.2) := (mE_sF (by simp)).trans (mEf_E.wide (by simp) (by simp) (by simp))
        have hE1 : mE [4, 16, 17, 18, 19] [21, 22, 23] [20] σ s := by
          rw [e1]
          exact (hE0.wide (by simp) (by simp) (by simp)).trans (mE_sF (by simp))
        have hM : MP s tx n c.1 := h.to hE1 (by simp) (by simp) (by rw [e1, sF_1, if_pos rfl]) b1
        obtain ⟨d1, d2⟩ := skB_le (tx := tx) b1
        have hM2 := hM.at d2
        have g5 : (m_sF s 4 (nI (skB tx n c.1))).1 5 = 0 := by rw [sF_1, if_neg (by omega), hE1.1 5 (by simp)]; exact h5
        have g16 : (m_sF s 4 (nI (skB tx n c.1))).1 16 = nI (k + 1) := by rw [sF_1, if_neg (by omega), e1, sF_1, if_neg (by omega), mEf_E.1 16 (by simp), sF_1, if_pos rfl]
        obtain ⟨r, hr, hr2⟩ := ih (k + 1) (skB tx n c.1) _ (by omega) (by omega) hM2 g5 g16
        refine ⟨r, wt_whC_i (by rw [hF, blanks_e hM, wt_bd_s]) hr, ?_⟩
        show LwQ σ k (pB (pLaw tx n f (k + 1) (skB tx n c.1)) fun l => .inr (c.2 :: l)) r
        revert hr2
        cases pLaw tx n f (k + 1) (skB tx n c.1) with
        | inl e =>
          rintro ⟨a1, a2⟩
          exact ⟨a1, ((hE1.wide (by simp) (by simp) (by simp)).trans (mE_sF (by simp))).trans a2⟩
        | inr l =>
          rintro ⟨p', a1⟩
          refine ⟨p', ?_⟩
          rw [a1, mRd_4, e1, mRd_4, sF_sF, sF_sF]
          rfl
/-- law data as they are read from nothing -/
def mZ : MSt := (fun k => if k = 19 then 8 else 0, fun k _ => if k = 21 then 16 else 0, fun _ _ _ => 0)
/-- the same law data, in range -/
def LdE (x y : MSt) : Prop := x.1 17 = y.1 17 ∧ x.1 18 = y.1 18 ∧ x.1 19 = y.1 19 ∧ (∀ s, s < 10 → x.2.1 21 s = y.2.1 21 s ∧ x.2.1 22 s = y.2.1 22 s ∧ x.2.1 23 s = y.2.1 23 s) ∧ ∀ g s, g < 8 → s < 10 → x.2.2 20 g s = y.2.2 20 g s
theorem LdE_ef {x y : MSt} {c : Nat × Nat × Nat × Nat} (h : LdE x y) (hc : COk c) : LdE (mEf x c) (mEf y c) := by
  obtain ⟨h1, h2, h3, h4, h5⟩ := h
  obtain ⟨c0, c1, c2, -, -, -, -, -, c5, -⟩ := hc
  unfold mEf
  by_cases e0 : c.1 = 0
  · rw [if_pos e0, if_pos e0]
    refine ⟨h1, h2, h3, h4, fun g s hg hs => ?_⟩
    rw [sG_3, sG_3, h5 g s hg hs]
  · rw [if_neg e0, if_neg e0]
    by_cases e1 : c.1 = 1
    · rw [if_pos e1, if_pos e1]
      refine ⟨h1, h2, h3, fun s hs => ?_, h5⟩
      obtain ⟨a, b, d⟩ := h4 s hs
      rw [sA_2, sA_2, sA_2, sA_2, sA_2, sA_2, a, b, d]
      exact ⟨rfl, rfl, rfl⟩
    · rw [if_neg e1, if_neg e1]
      by_cases e2 : c.1 = 2
      · rw [if_pos e2, if_pos e2]
        refine ⟨by rw [sF_1, sF_1, if_pos rfl, if_pos rfl], by rw [sF_1, sF_1, h2], by rw [sF_1, sF_1, h3], h4, h5⟩
      · rw [if_neg e2, if_neg e2]
        by_cases e3 : c.1 = 3
        · rw [if_pos e3, if_pos e3]
          refine ⟨by rw [sF_1, sF_1, h1], by rw [sF_1, sF_1, if_pos rfl, if_pos rfl], by rw [sF_1, sF_1, h3], h4, h5⟩
        · rw [if_neg e3, if_neg e3]
          by_cases e4 : c.1 = 4
          · rw [if_pos e4, if_pos e4]
            refine ⟨by rw [sF_1, sF_1, h1], by rw [sF_1, sF_1, h2], by rw [sF_1, sF_1, if_pos rfl, if_pos rfl], h4, h5⟩
          · rw [if_neg e4, if_neg e4]
            by_cases e5 : c.1 = 5
            · rw [if_pos e5, if_pos e5]
              have hv := (c5 e5).1
              refine ⟨h1, h2, h3, fun s hs => ?_, h5⟩
              obtain ⟨a, b, d⟩ := h4 s hs
              obtain ⟨-, -, d1⟩ := h4 c.2.2.1 (by omega)
              obtain ⟨-, -, d2⟩ := h4 c.2.2.2 (by omega)
              simp only [sA_2, a, b, d, d1, d2]
              exact ⟨trivial, trivial, trivial⟩
            · rw [if_neg e5, if_neg e5]
              refine ⟨h1, h2, h3, fun s hs => ?_, h5⟩
              obtain ⟨a, b, d⟩ := h4 s hs
              rw [sA_2, sA_2, sA_2, sA_2, sA_2, sA_2, a, b, d]
              exact ⟨rfl, rfl, rfl⟩
theorem LdE_16 {x y : MSt} {a b : Int32} (h : LdE x y) : LdE (m_sF x 16 a) (m_sF y 16 b) := by
  obtain ⟨h1, h2, h3, h4, h5⟩ := h
  exact ⟨by rw [sF_1, sF_1, if_neg (by omega), if_neg (by omega)]; exact h1, by rw [sF_1, sF_1, if_neg (by omega), if_neg (by omega)]; exact h2, by rw [sF_1, sF_1, if_neg (by omega), if_neg (by omega)]; exact h3, h4, h5⟩
theorem LdE_rd : ∀ (l : List (Nat × Nat × Nat × Nat)) (x y : MSt) (k : Nat), (∀ c, c ∈ l → COk c) → LdE x y → LdE (mRd x l k) (mRd y l k) := by
  intro l
  induction l with
  | nil => intro x y k _ h; exact h
  | cons c l ih =>
    intro x y k hc h
    exact ih _ _ _ (fun z hz => hc z (List.mem_cons_of_mem _ hz)) (LdE_ef (LdE_16 h) (hc c List.mem_cons_self))
theorem pLaw_ok {tx : Nat → Nat} {n : Nat} : ∀ (f k p : Nat) (l : List (Nat × Nat × Nat × Nat)), p ≤ n → pLaw tx n f k p = .inr l → (∀ c, c ∈ l → COk c) ∧ l.length ≤ f := by
  intro f
  induction f with
  | zero => intro k p l _ h; cases h; exact ⟨fun c hc => by (cases hc), Nat.le_refl _⟩
  | succ f ih =>
    intro k p l hp h
    unfold pLaw at h
    by_cases c : n ≤ p
    · rw [if_pos c] at h
      cases h
      exact ⟨fun c hc => by (cases hc), Nat.zero_le _⟩
    · rw [if_neg c] at h
      obtain ⟨a, e1, h⟩ := pB_inr h
      obtain ⟨l', e2, h⟩ := pB_inr h
      cases h
      obtain ⟨b1, b2⟩ := pClause_ok hp e1
      obtain ⟨d1, d2⟩ := ih _ _ _ (skB_le (tx := tx) b1).2 e2
      refine ⟨fun z hz => ?_, by rw [List.length_cons]; omega⟩
      rcases List.mem_cons.mp hz with q | q
      · rw [q]; exact b2
      · exact d1 z q
/-! the rows that the model clears, and those that it copies -/
theorem law_clr {σ : MSt} : wp (wt_whC bX4_law_1 ((0 : Int32), σ)) (fun s => mE [] [21, 22, 23] [20] σ s ∧ (∀ j, j < 10 → s.2.1 21 j = 16 ∧ s.2.1 22 j = 0 ∧ s.2.1 23 j = 0) ∧ ∀ g j, g < 8 → j < 10 → s.2.2 20 g j = 0) := by
  refine wp_for 10 0 (fun k v => ∃ s, v = (nI k, s) ∧ mE [] [21, 22, 23] [20] σ s ∧ (∀ j, j < k → s.2.1 21 j = 16 ∧ s.2.1 22 j = 0 ∧ s.2.1 23 j = 0) ∧ ∀ g j, g < 8 → j < k → s.2.2 20 g j = 0) (by omega) ⟨σ, rfl, mE.rfl, fun j hj => by omega, fun g j _ hj => by omega⟩ ?_ ?_
  · rintro k v hk ⟨s, rfl, hE, h1, h2⟩
    unfold bX4_law_1
    dsimp only
    rw [wp_ite, if_neg (by rw [q_10, nI_leI (by omega) (by omega)]; omega), vp_nI (by omega), wt_ck_t hk, wp_lt, wt_ck_t hk, wp_lt, wt_ck_t hk, wp_lt, nI_clamp (by omega)]
    have hE1 : mE [] [21, 22, 23] [20] s (m_sA (m_sA (m_sA s 21 k 16) 22 k 0) 23 k 0) := ((mE_sA (by simp)).trans (mE_sA (by simp))).trans (mE_sA (by simp))
    have h11 : ∀ j, j < k + 1 → (m_sA (m_sA (m_sA s 21 k 16) 22 k 0) 23 k 0).2.1 21 j = 16 ∧ (m_sA (m_sA (m_sA s 21 k 16) 22 k 0) 23 k 0).2.1 22 j = 0 ∧ (m_sA (m_sA (m_sA s 21 k 16) 22 k 0) 23 k 0).2.1 23 j = 0 := by
      intro j hj
      simp only [sA_2]
      by_cases c : j = k
      · subst c; simp
      · obtain ⟨a, b, d⟩ := h1 j (by omega)
        simp [c, a, b, d]
    have h12 : ∀ g j, g < 8 → j < k → (m_sA (m_sA (m_sA s 21 k 16) 22 k 0) 23 k 0).2.2 20 g j = 0 := h2
    generalize m_sA (m_sA (m_sA s 21 k 16) 22 k 0) 23 k 0 = s1 at hE1 h11 h12
    have inner : wp (wt_whC (bX4_law_2 (nI k, s)) ((0 : Int32), s1)) (fun s2 => mE [] [] [20] s1 s2 ∧ ∀ g j, g < 8 → j < k + 1 → s2.2.2 20 g j = 0) := by
      refine wp_for 8 0 (fun q v => ∃ s2, v = (nI q, s2) ∧ mE [] [] [20] s1 s2 ∧ ∀ g j, (g < 8 ∧ j < k) ∨ (g < q ∧ j = k) → s2.2.2 20 g j = 0) (by omega) ⟨s1, rfl, mE.rfl, fun g j hj => by
        rcases hj with z | z
        · exact h12 g j z.1 z.2
        · omega⟩ ?_ ?_
      · rintro q v hq ⟨s2, rfl, f1, f2⟩
        unfold bX4_law_2
        dsimp only
        rw [wp_ite, if_neg (by rw [q_8, nI_leI (by omega) (by omega)]; omega), vp_nI (by omega), vp_nI (by omega), wt_ck_t hq, wt_ck_t hk, nI_clamp (by omega), nI_clamp (by omega), wp_lt, wp_lt, wp_some, lpo_l, nI_1]
        refine ⟨_, rfl, f1.trans (mE_sG (by simp)), fun g j hj => ?_⟩
        rw [sG_3]
        by_cases c : (20 : Nat) = 20 ∧ g = q ∧ j = k
        · rw [if_pos c]
        · rw [if_neg c]
          refine f2 g j ?_
          rcases hj with z | z
          · exact Or.inl z
          · right
            refine ⟨?_, z.2⟩
            rcases Nat.lt_or_ge g q with w | w
            · exact w
            · exact absurd ⟨rfl, by omega, z.2⟩ c
      · rintro v ⟨s2, rfl, f1, f2⟩
        unfold bX4_law_2
        dsimp only
        rw [wp_ite, if_pos (by decide), wp_some, lpo_r]
        refine ⟨f1, fun g j hg hj => f2 g j ?_⟩
        by_cases c : j = k
        · exact Or.inr ⟨hg, c⟩
        · exact Or.inl ⟨hg, by omega⟩
    refine wp_ap inner fun s2 ⟨f1, f2⟩ => ?_
    rw [wp_lt, wp_some, lpo_l, nI_1]
    refine ⟨s2, rfl, (hE.trans hE1).trans (f1.wide (by simp) (by simp) (by simp)), fun j hj => ?_, f2⟩
    rw [f1.2.1 21 (by simp), f1.2.1 22 (by simp), f1.2.1 23 (by simp)]
    exact h11 j hj
  · rintro v ⟨s, rfl, hE, h1, h2⟩
    unfold bX4_law_1
    dsimp only
    rw [wp_ite, if_pos (by decide), wp_some, lpo_r]
    exact ⟨hE, h1, h2⟩
theorem law_cpy {σ : MSt} : wp (wt_whC bX4_law_4 ((0 : Int32), σ)) (fun s => mE [] [13, 14, 15] [12] σ s ∧ (∀ j, j < 10 → s.2.1 13 j = σ.2.1 21 j ∧ s.2.1 14 j = σ.2.1 22 j ∧ s.2.1 15 j = σ.2.1 23 j) ∧ ∀ g j, g < 8 → j < 10 → s.2.2 12 g j = σ.2.2 20 g j) := by
  refine wp_for 10 0 (fun k v => ∃ s, v = (nI k, s) ∧ mE [] [13, 14, 15] [12] σ s ∧ (∀ j, j < k → s.2.1 13 j = σ.2.1 21 j ∧ s.2.1 14 j = σ.2.1 22 j ∧ s.2.1 15 j = σ.2.1 23 j) ∧ ∀ g j, g < 8 → j < k → s.2.2 12 g j = σ.2.2 20 g j) (by omega) ⟨σ, rfl, mE.rfl, fun j hj => by omega, fun g j _ hj => by omega⟩ ?_ ?_
  · rintro k v hk ⟨s, rfl, hE, h1, h2⟩
    unfold bX4_law_4
    dsimp only
    rw [wp_ite, if_neg (by rw [q_10, nI_leI (by omega) (by omega)]; omega), vp_nI (by omega), wt_ck_t hk, wt_ck_t hk, wp_lt, wt_ck_t hk, wt_ck_t hk, wp_lt, wt_ck_t hk, wt_ck_t hk, wp_lt, nI_clamp (by omega)]
    have e22 : (m_sA s 13 k (s.2.1 21 k)).2.1 22 k = σ.2.1 22 k := by
      rw [sA_2, if_neg (by omega), hE.2.1 22 (by simp)]
    have e23 : (m_sA (m_sA s 13 k (s.2.1 21 k)) 14 k ((m_sA s 13 k (s.2.1 21 k)).2.1 22 k)).2.1 23 k = σ.2.1 23 k := by
      rw [sA_2, if_neg (by omega), sA_2, if_neg (by omega), hE.2.1 23 (by simp)]
    rw [e23, e22, hE.2.1 21 (by simp)]
    have hE1 : mE [] [13, 14, 15] [12] s (m_sA (m_sA (m_sA s 13 k (σ.2.1 21 k)) 14 k (σ.2.1 22 k)) 15 k (σ.2.1 23 k)) := ((mE_sA (by simp)).trans (mE_sA (by simp))).trans (mE_sA (by simp))
    have h11 : ∀ j, j < k + 1 → (m_sA (m_sA (m_sA s 13 k (σ.2.1 21 k)) 14 k (σ.2.1 22 k)) 15 k (σ.2.1 23 k)).2.1 13 j = σ.2.1 21 j ∧ (m_sA (m_sA (m_sA s 13 k (σ.2.1 21 k)) 14 k (σ.2.1 22 k)) 15 k (σ.2.1 23 k)).2.1 14 j = σ.2.1 22 j ∧ (m_sA (m_sA (m_sA s 13 k (σ.2.1 21 k)) 14 k (σ.2.1 22 k)) 15 k (σ.2.1 23 k)).2.1 15 j = σ.2.1 23 j := by
      intro j hj
      simp only [sA_2]
      by_cases c : j = k
      · subst c; simp
      · obtain ⟨a, b, d⟩ := h1 j (by omega)
        simp [c, a, b, d]
    have h12 : ∀ g j, g < 8 → j < k → (m_sA (m_sA (m_sA s 13 k (σ.2.1 21 k)) 14 k (σ.2.1 22 k)) 15 k (σ.2.1 23 k)).2.2 12 g j = σ.2.2 20 g j := h2
    generalize m_sA (m_sA (m_sA s 13 k (σ.2.1 21 k)) 14 k (σ.2.1 22 k)) 15 k (σ.2.1 23 k) = s1 at hE1 h11 h12
    have e20 : s1.2.2 20 = σ.2.2 20 := (hE1.2.2 20 (by simp)).trans (hE.2.2 20 (by simp))
    have inner : wp (wt_whC (bX4_law_5 (nI k, s)) ((0 : Int32), s1)) (fun s2 => mE [] [] [12] s1 s2 ∧ ∀ g j, g < 8 → j < k + 1 → s2.2.2 12 g j = σ.2.2 20 g j) := by
      refine wp_for 8 0 (fun q v => ∃ s2, v = (nI q, s2) ∧ mE [] [] [12] s1 s2 ∧ ∀ g j, (g < 8 ∧ j < k) ∨ (g < q ∧ j = k) → s2.2.2 12 g j = σ.2.2 20 g j) (by omega) ⟨s1, rfl, mE.rfl, fun g j hj => by
        rcases hj with z | z
        · exact h12 g j z.1 z.2
        · omega⟩ ?_ ?_
      · rintro q v hq ⟨s2, rfl, f1, f2⟩
        unfold bX4_law_5
        dsimp only
        rw [wp_ite, if_neg (by rw [q_8, nI_leI (by omega) (by omega)]; omega), vp_nI (by omega), vp_nI (by omega), wt_ck_t hq, wt_ck_t hq, wt_ck_t hk, wt_ck_t hk, nI_clamp (by omega), nI_clamp (by omega), wp_lt, wp_lt, wp_some, lpo_l, nI_1]
        refine ⟨_, rfl, f1.trans (mE_sG (by simp)), fun g j hj => ?_⟩
        rw [sG_3]
        by_cases c : (12 : Nat) = 12 ∧ g = q ∧ j = k
        · rw [if_pos c, f1.2.2 20 (by simp), e20, c.2.1, c.2.2]
        · rw [if_neg c]
          refine f2 g j ?_
          rcases hj with z | z
          · exact Or.inl z
          · right
            refine ⟨?_, z.2⟩
            rcases Nat.lt_or_ge g q with w | w
            · exact w
            · exact absurd ⟨rfl, by omega, z.2⟩ c
      · rintro v ⟨s2, rfl, f1, f2⟩
        unfold bX4_law_5
        dsimp only
        rw [wp_ite, if_pos (by decide), wp_some, lpo_r]
        refine ⟨f1, fun g j hg hj => f2 g j ?_⟩
        by_cases c : j = k
        · exact Or.inr ⟨hg, c⟩
        · exact Or.inl ⟨hg, by omega⟩
    refine wp_ap inner fun s2 ⟨f1, f2⟩ => ?_
    rw [wp_lt, wp_some, lpo_l, nI_1]
    refine ⟨s2, rfl, (hE.trans hE1).trans (f1.wide (by simp) (by simp) (by simp)), fun j hj => ?_, f2⟩
    rw [f1.2.1 13 (by simp), f1.2.1 14 (by simp), f1.2.1 15 (by simp)]
    exact h11 j hj
  · rintro v ⟨s, rfl, hE, h1, h2⟩
    unfold bX4_law_4
    dsimp only
    rw [wp_ite, if_pos (by decide), wp_some, lpo_r]
    exact ⟨hE, h1, h2⟩
/-- what the model's law answers, and does: (its answer, its state) -/
def LawQ (σ : MSt) (r : PR (List (Nat × Nat × Nat × Nat))) (o : Int32 × MSt) : Prop := match r with
  | .inl e => o.1 = nI e.1 - 10 ∧ 1 ≤ e.1 ∧ e.1 ≤ 3 ∧ o.2.1 0 = 0 ∧ o.2.1 1 = 0 ∧ o.2.1 3 = nI e.2 ∧ mE [0, 1, 2, 3, 4, 5, 6, 16, 17, 18, 19] [21, 22, 23] [20] σ o.2
  | .inr l => o.1 = nI l.length ∧ o.2.1 0 = 0 ∧ o.2.1 1 = 0 ∧ o.2.1 3 = -1 ∧ o.2.1 8 = nI l.length ∧ o.2.1 9 = (mRd mZ l 0).1 17 ∧ o.2.1 10 = (mRd mZ l 0).1 18 ∧ o.2.1 11 = (mRd mZ l 0).1 19 ∧
      (∀ j, j < 10 → o.2.2.1 13 j = (mRd mZ l 0).2.1 21 j ∧ o.2.2.1 14 j = (mRd mZ l 0).2.1 22 j ∧ o.2.2.1 15 j = (mRd mZ l 0).2.1 23 j) ∧ (∀ g j, g < 8 → j < 10 → o.2.2.2 12 g j = (mRd mZ l 0).2.2 20 g j) ∧
      mE [0, 1, 2, 3, 4, 5, 6, 8, 9, 10, 11, 16, 17, 18, 19] [13, 14, 15, 21, 22, 23] [12, 20] σ o.2
/-- the tape: td signs, of which the first n are read -/
def Tp (σ : MSt) (tx : Nat → Nat) (td : Nat) : Prop := σ.1 1 = nI td ∧ td ≤ 400 ∧ ∀ k, k < 400 → σ.2.1 7 k = nI (tx k) ∧ tx k < 256
theorem begins_e {σ : MSt} {tx : Nat → Nat} {td n : Nat} (h : Tp σ tx td) (hn : n ≤ td) : wp (dX4_begins σ (nI n)) (fun s => MP s tx n (skB tx n 0) ∧ s.1 5 = 0 ∧ s.1 6 = -1 ∧ s.1 1 = 0 ∧ mE [1, 2, 4, 5, 6] [] [] σ s) := by
  unfold dX4_begins
  rw [wp_lt, wp_lt, wp_lt, wp_lt, wp_lt]
  have hE : mE [1, 2, 4, 5, 6] [] [] σ (m_sF (m_sF (m_sF (m_sF (m_sF σ 2 (nI n)) 1 0) 4 0) 5 0) 6 (-1)) := ((((mE_sF (by simp)).trans (mE_sF (by simp))).trans (mE_sF (by simp))).trans (mE_sF (by simp))).trans (mE_sF (by simp))
  have hM : MP (m_sF (m_sF (m_sF (m_sF (m_sF σ 2 (nI n)) 1 0) 4 0) 5 0) 6 (-1)) tx n 0 := by
    refine ⟨by simp [sF_1], by have := h.2.1; omega, fun k hk => ?_, by simp [sF_1]; rfl, Nat.zero_le _⟩
    exact h.2.2 k (by have := h.2.1; omega)
  rw [blanks_e hM, wt_bd_s, wp_some]
  obtain ⟨-, h2⟩ := skB_le (tx := tx) (Nat.zero_le n)
  exact ⟨hM.at h2, by simp [sF_1], by simp [sF_1], by simp [sF_1], hE.trans (mE_sF (by simp))⟩
theorem mlaw_e {σ : MSt} {tx : Nat → Nat} {td n : Nat} (h : Tp σ tx td) (hn : n ≤ td) : wp (dX4_law σ (nI n)) (LawQ σ (pLaw tx n 25 0 (skB tx n 0))) := by
  have h400 := h.2.1
  unfold dX4_law
  rw [wp_lt]
  have hE0 : mE [0] [] [] σ (m_sF σ 0 0) := mE_sF (by simp)
  have h00 : (m_sF σ 0 0).1 0 = 0 := by rw [sF_1, if_pos rfl]
  have hT0 : Tp (m_sF σ 0 0) tx td := ⟨by rw [sF_1, if_neg (by omega)]; exact h.1, h.2⟩
  generalize m_sF σ 0 0 = s0 at hE0 h00 hT0
  rw [in_e, wt_bd_s, hT0.1, mIn_t (by rw [nI_toInt (by omega), show (0 : Int32).toInt = 0 from by decide]; omega) (by rw [nI_toInt (by omega), nI_toInt (by omega)]; omega), if_neg (by decide), wt_bd_s, bad_0 h00, wt_bd_s]
  dsimp only
  rw [if_pos rfl]
  refine wp_ap (begins_e hT0 hn) fun s1 ⟨hM1, h15, h16, h11, hE1⟩ => ?_
  rw [wp_lt, wp_lt, wp_lt, wp_lt]
  have hE2 : mE [16, 17, 18, 19] [] [] s1 (m_sF (m_sF (m_sF (m_sF s1 16 0) 17 0) 18 0) 19 8) := (((mE_sF (by simp)).trans (mE_sF (by simp))).trans (mE_sF (by simp))).trans (mE_sF (by simp))
  have k16 : (m_sF (m_sF (m_sF (m_sF s1 16 0) 17 0) 18 0) 19 8).1 16 = 0 ∧ (m_sF (m_sF (m_sF (m_sF s1 16 0) 17 0) 18 0) 19 8).1 17 = 0 ∧ (m_sF (m_sF (m_sF (m_sF s1 16 0) 17 0) 18 0) 19 8).1 18 = 0 ∧ (m_sF (m_sF (m_sF (m_sF s1 16 0) 17 0) 18 0) 19 8).1 19 = 8 := by simp [sF_1]
  generalize m_sF (m_sF (m_sF (m_sF s1 16 0) 17 0) 18 0) 19 8 = s2 at hE2 k16
  refine wp_ap law_clr fun s3 ⟨hE3, a1, a2⟩ => ?_
  have hE23 : mE [16, 17, 18, 19] [21, 22, 23] [20] s1 s3 := (hE2.wide (by simp) (by simp) (by simp)).trans (hE3.wide (by simp) (by simp) (by simp))
  have hM3 : MP s3 tx n (skB tx n 0) := hM1.E hE23 (by simp) (by simp) (by simp)
  have h35 : s3.1 5 = 0 := by rw [hE23.1 5 (by simp)]; exact h15
  have h316 : s3.1 16 = nI 0 := by rw [hE3.1 16 (by simp)]; exact k16.1
  have hLd : LdE s3 mZ := ⟨by rw [hE3.1 17 (by simp)]; exact k16.2.1, by rw [hE3.1 18 (by simp)]; exact k16.2.2.1, by rw [hE3.1 19 (by simp)]; exact k16.2.2.2, a1, a2⟩
  have hEs : mE [0, 1, 2, 4, 5, 6, 16, 17, 18, 19] [21, 22, 23] [20] σ s3 := ((hE0.wide (by simp) (by simp) (by simp)).trans (hE1.wide (by simp) (by simp) (by simp))).trans (hE23.wide (by simp) (by simp) (by simp))
  have h30 : s3.1 0 = 0 := by rw [hE23.1 0 (by simp), hE1.1 0 (by simp)]; exact h00
  have h31 : s3.1 1 = 0 := by rw [hE23.1 1 (by simp)]; exact h11
  have h36 : s3.1 6 = -1 := by rw [hE23.1 6 (by simp)]; exact h16
  refine wp_ap (mclauses 25 0 _ s3 (by omega) (by omega) hM3 h35 h316) fun s4 hq => ?_
  have hok := fun l => pLaw_ok (tx := tx) (n := n) 25 0 (skB tx n 0) l (skB_le (tx := tx) (Nat.zero_le n)).2
  revert hq hok
  cases pLaw tx n 25 0 (skB tx n 0) with
  | inl e =>
    rintro ⟨b1, b2⟩ -
    rw [wp_lt, wp_ite]
    have b3 := b1.E (mE_sF (f := [3]) (a := []) (g := []) (k := 3) (v := s4.1 6) (by simp)) (by simp) (by simp)
    rw [if_neg b3.ne, wp_some]
    refine ⟨by rw [b3.1], b1.2.2.1, b1.2.2.2, ?_, ?_, ?_, (hEs.wide (by simp) (by simp) (by simp)).trans ((b2.wide (by simp) (by simp) (by simp)).trans (mE_sF (by simp)))⟩
    · show (m_sF s4 3 (s4.1 6)).1 0 = 0
      rw [sF_1, if_neg (by omega), b2.1 0 (by simp)]; exact h30
    · show (m_sF s4 3 (s4.1 6)).1 1 = 0
      rw [sF_1, if_neg (by omega), b2.1 1 (by simp)]; exact h31
    · show (m_sF s4 3 (s4.1 6)).1 3 = nI e.2
      rw [sF_1, if_pos rfl]; exact b1.2.1
  | inr l =>
    rintro ⟨p, hq⟩ hok
    obtain ⟨ok1, ok2⟩ := hok l rfl
    have hr := LdE_rd l s3 mZ 0 ok1 hLd
    have hEr := mRd_E l s3 0
    have hr16 := mRd_16 l s3 0 h316
    rw [Nat.zero_add] at hr16
    have q6 : s4.1 6 = -1 := by rw [hq, sF_1, if_neg (by omega), hEr.1 6 (by simp)]; exact h36
    have q5 : (m_sF s4 3 (s4.1 6)).1 5 = 0 := by rw [sF_1, if_neg (by omega), hq, sF_1, if_neg (by omega), hEr.1 5 (by simp)]; exact h35
    rw [wp_lt, wp_ite, if_pos q5, wp_lt, wp_lt, wp_lt, wp_lt, q6]
    have hE4 : mE [4, 16, 17, 18, 19] [21, 22, 23] [20] s3 s4 := by
      rw [hq]
      exact (hEr.wide (by simp) (by simp) (by simp)).trans (mE_sF (by simp))
    have f16 : s4.1 16 = nI l.length := by rw [hq, sF_1, if_neg (by omega)]; exact hr16
    have f17 : s4.1 17 = (mRd mZ l 0).1 17 := by rw [hq, sF_1, if_neg (by omega)]; exact hr.1
    have f18 : s4.1 18 = (mRd mZ l 0).1 18 := by rw [hq, sF_1, if_neg (by omega)]; exact hr.2.1
    have f19 : s4.1 19 = (mRd mZ l 0).1 19 := by rw [hq, sF_1, if_neg (by omega)]; exact hr.2.2.1
    have fA : ∀ j, j < 10 → s4.2.1 21 j = (mRd mZ l 0).2.1 21 j ∧ s4.2.1 22 j = (mRd mZ l 0).2.1 22 j ∧ s4.2.1 23 j = (mRd mZ l 0).2.1 23 j := by rw [hq]; exact hr.2.2.2.1
    have fG : ∀ g j, g < 8 → j < 10 → s4.2.2 20 g j = (mRd mZ l 0).2.2 20 g j := by rw [hq]; exact hr.2.2.2.2
    have hE5 : mE [3, 8, 9, 10, 11] [] [] s4 (m_sF (m_sF (m_sF (m_sF (m_sF s4 3 (-1)) 8 ((m_sF s4 3 (-1)).1 16)) 9 ((m_sF (m_sF s4 3 (-1)) 8 ((m_sF s4 3 (-1)).1 16)).1 17)) 10 ((m_sF (m_sF (m_sF s4 3 (-1)) 8 ((m_sF s4 3 (-1)).1 16)) 9 ((m_sF (m_sF s4 3 (-1)) 8 ((m_sF s4 3 (-1)).1 16)).1 17)).1 18)) 11 ((m_sF (m_sF (m_sF (m_sF s4 3 (-1)) 8 ((m_sF s4 3 (-1)).1 16)) 9 ((m_sF (m_sF s4 3 (-1)) 8 ((m_sF s4 3 (-1)).1 16)).1 17)) 10 ((m_sF (m_sF (m_sF s4 3 (-1)) 8 ((m_sF s4 3 (-1)).1 16)) 9 ((m_sF (m_sF s4 3 (-1)) 8 ((m_sF s4 3 (-1)).1 16)).1 17)).1 18)).1 19)) := ((((mE_sF (by simp)).trans (mE_sF (by simp))).trans (mE_sF (by simp))).trans (mE_sF (by simp))).trans (mE_sF (by simp))
    have hv : ∀ s, s = (m_sF (m_sF (m_sF (m_sF (m_sF s4 3 (-1)) 8 ((m_sF s4 3 (-1)).1 16)) 9 ((m_sF (m_sF s4 3 (-1)) 8 ((m_sF s4 3 (-1)).1 16)).1 17)) 10 ((m_sF (m_sF (m_sF s4 3 (-1)) 8 ((m_sF s4 3 (-1)).1 16)) 9 ((m_sF (m_sF s4 3 (-1)) 8 ((m_sF s4 3 (-1)).1 16)).1 17)).1 18)) 11 ((m_sF (m_sF (m_sF (m_sF s4 3 (-1)) 8 ((m_sF s4 3 (-1)).1 16)) 9 ((m_sF (m_sF s4 3 (-1)) 8 ((m_sF s4 3 (-1)).1 16)).1 17)) 10 ((m_sF (m_sF (m_sF s4 3 (-1)) 8 ((m_sF s4 3 (-1)).1 16)) 9 ((m_sF (m_sF s4 3 (-1)) 8 ((m_sF s4 3 (-1)).1 16)).1 17)).1 18)).1 19)) → s.1 3 = -1 ∧ s.1 8 = s4.1 16 ∧ s.1 9 = s4.1 17 ∧ s.1 10 = s4.1 18 ∧ s.1 11 = s4.1 19 := by
      intro s e
      rw [e]
      simp [sF_1]
    have hv2 := hv _ rfl
    generalize (m_sF (m_sF (m_sF (m_sF (m_sF s4 3 (-1)) 8 ((m_sF s4 3 (-1)).1 16)) 9 ((m_sF (m_sF s4 3 (-1)) 8 ((m_sF s4 3 (-1)).1 16)).1 17)) 10 ((m_sF (m_sF (m_sF s4 3 (-1)) 8 ((m_sF s4 3 (-1)).1 16)) 9 ((m_sF (m_sF s4 3 (-1)) 8 ((m_sF s4 3 (-1)).1 16)).1 17)).1 18)) 11 ((m_sF (m_sF (m_sF (m_sF s4 3 (-1)) 8 ((m_sF s4 3 (-1)).1 16)) 9 ((m_sF (m_sF s4 3 (-1)) 8 ((m_sF s4 3 (-1)).1 16)).1 17)) 10 ((m_sF (m_sF (m_sF s4 3 (-1)) 8 ((m_sF s4 3 (-1)).1 16)) 9 ((m_sF (m_sF s4 3 (-1)) 8 ((m_sF s4 3 (-1)).1 16)).1 17)).1 18)).1 19)) = s5 at hE5 hv2
    obtain ⟨v3, v8, v9, v10, v11⟩ := hv2
    refine wp_ap law_cpy fun s6 ⟨hE6, g1, g2⟩ => ?_
    rw [wp_some]
    have hEz : mE [0, 1, 2, 3, 4, 5, 6, 8, 9, 10, 11, 16, 17, 18, 19] [13, 14, 15, 21, 22, 23] [12, 20] σ s6 := (((hEs.wide (by simp) (by simp) (by simp)).trans (hE4.wide (by simp) (by simp) (by simp))).trans (hE5.wide (by simp) (by simp) (by simp))).trans (hE6.wide (by simp) (by simp) (by simp))
    refine ⟨?_, ?_, ?_, ?_, ?_, ?_, ?_, ?_, fun j hj => ?_, fun g j hg hj => ?_, hEz⟩
    · show s6.1 8 = _
      rw [hE6.1 8 (by simp), v8, f16]
    · rw [hE6.1 0 (by simp), hE5.1 0 (by simp), hE4.1 0 (by simp)]; exact h30
    · rw [hE6.1 1 (by simp), hE5.1 1 (by simp), hE4.1 1 (by simp)]; exact h31
    · rw [hE6.1 3 (by simp), v3]
    · rw [hE6.1 8 (by simp), v8, f16]
    · rw [hE6.1 9 (by simp), v9, f17]
    · rw [hE6.1 10 (by simp), v10, f18]
    · rw [hE6.1 11 (by simp), v11, f19]
    · obtain ⟨z1, z2, z3⟩ := g1 j hj
      obtain ⟨y1, y2, y3⟩ := fA j hj
      rw [z1, z2, z3, hE5.2.1 21 (by simp), hE5.2.1 22 (by simp), hE5.2.1 23 (by simp)]
      exact ⟨y1, y2, y3⟩
    · rw [g2 g j hg hj, hE5.2.2 20 (by simp)]
      exact fG g j hg hj
/-! THE PLAIN LAW, 15: the component's strings -/
set_option maxRecDepth 100000
def sbI (c : Nat) : Int32 := Int8.toInt32 (Int32.toInt8 (nI c))
theorem sb_t : ∀ c, c < 256 → ((sbI c = 32 ↔ c = 32) ∧ ((¬ sbI c < 97 ∧ ¬ 122 < sbI c) ↔ (97 ≤ c ∧ c ≤ 122)) ∧ ((¬ sbI c < 48 ∧ ¬ 57 < sbI c) ↔ (48 ≤ c ∧ c ≤ 57)) ∧ (sbI c = 59 ↔ c = 59) ∧ (c < 128 → sbI c = nI c)) := by decide +kernel
theorem sb_u : ∀ c, c < 128 → UInt32.toInt32 (Int32.toUInt32 (nI c) % 65536) = nI c ∧ nI c &&& 255 = nI c ∧ Int8.toInt32 (Int32.toInt8 (Int8.toInt32 (Int32.toInt8 (nI c)))) = nI c ∧ fits .byte (.int (nI c)) = true := by decide +kernel
/-- a builder at b with its row v: k signs -/
def SbR (τ : HP) (b v k : Nat) (g : Nat → Int32) : Prop := τ.1 b = some (.inr (14, [.ref v, .int 0, .int 0, .int (nI k)])) ∧ τ.1 v = some (.inl (1, 16, .inl g))
theorem SbR.ne {τ : HP} {b v k : Nat} {g : Nat → Int32} (h : SbR τ b v k g) : b ≠ v := by
  intro e
  rw [e] at h
  have := h.1
  rw [h.2] at this
  cases this
theorem sb_init {τ : HP} {b : Nat} (hf : Wf τ) (h : τ.1 b = some (.inr (14, [.null, .int 0, .int 0, .int 0]))) : wp (eJ8_init τ b) (fun t => ∃ g, SbR t b τ.2 0 g ∧ Fr [b] τ t ∧ t.2 = τ.2 + 1) := by
  have hb := hf b _ h
  unfold eJ8_init eJ7_init
  rw [if_neg (by decide), wt_ck_t (by decide), show (16 : Int32).toNatClampNeg = 16 from by decide]
  show wp (wt_bd (wt_bd (hp (hnew τ (.inl (1, 16, .inl (fun _ => 0)))) b [14] 0 (.ref τ.2)) _) _) _
  have a1 : (hnew τ (.inl (1, 16, .inl (fun _ => 0)))).1 b = some (.inr (14, [.null, .int 0, .int 0, .int 0])) := (hnew_ne (by omega)).trans h
  rw [hp_of (cs := [14]) (k := 0) a1 rfl (by omega) (by simp), wt_bd_s, hp_of (cs := [14]) (k := 1) hst_eq rfl (by omega) (by simp), wt_bd_s, wt_bd_s, wp_some, hst_hst]
  refine ⟨fun _ => 0, ⟨hst_eq, (hst_ne (by omega)).trans hnew_eq⟩, Fr.new.trans (Fr.st a1 (by simp)), rfl⟩
theorem sb_len {τ : HP} {b v k : Nat} {g : Nat → Int32} (h : SbR τ b v k g) : eJ8_length τ b = some (nI k) := by
  unfold eJ8_length eJ7_length
  rw [hgI_of (cs := [14]) (k := 3) h.1 rfl rfl, wt_bd_s, wt_bd_s, wt_ck_t (hcl_of h.1)]
theorem sb_app {τ : HP} {b v k c : Nat} {g : Nat → Int32} (h : SbR τ b v k g) (hk : k < 16) (hc : c < 128) : wp (eJ8_append_3 τ b (nI c)) (fun r => SbR r.2 b v (k + 1) (upd g k (nI c)) ∧ Fr [b, v] τ r.2 ∧ r.2.2 = τ.2) := by
  have hne := h.ne
  obtain ⟨h1, h2⟩ := h
  obtain ⟨-, -, u3, -⟩ := sb_u c hc
  unfold eJ8_append_3 eJ7_append_3
  rw [hgI_of (cs := [14]) (k := 3) h1 rfl rfl, wt_bd_s, wt_ck_t (hcl_of h1)]
  have e1 : eJ7_ensureCapacityInternal τ b (nI k + 1) = some () := by
    unfold eJ7_ensureCapacityInternal
    rw [hgA_of (cs := [14]) (k := 0) h1 rfl rfl, wt_bd_s, hln_of h2, wt_bd_s, hgI_of (cs := [14]) (k := 1) h1 rfl rfl, wt_bd_s, wp_lt_id, if_pos]
    rw [show (Int32.ofNat 16) >>> ((0 : Int32) &&& 31) = nI 16 from by decide, nI_1, i_le, pk_sub_toInt (by omega) (by omega), show (0 : Int32).toInt = 0 from by decide]
    omega
  have e2 : eJ7_isLatin1 τ b = some 1 := by
    unfold eJ7_isLatin1
    rw [if_neg (by decide), hgI_of (cs := [14]) (k := 1) h1 rfl rfl, wt_bd_s, if_pos rfl]
  have e3 : eJ15_canEncode (nI c) = some 1 := by
    unfold eJ15_canEncode
    rw [if_neg (by rw [il_lt (by omega) (by omega)]; omega)]
  rw [e1, wt_bd_s, wt_ck_t (hcl_of h1), e2, wt_bd_s, if_neg (by decide), e3, wt_bd_s, if_neg (by decide), hgA_of (cs := [14]) (k := 0) h1 rfl rfl, wt_bd_s, wt_bd_s, hp_of (cs := [14]) (k := 3) h1 rfl (by omega) (by simp), wt_bd_s]
  have g2 : (hst τ b (.inr (14, [Value.ref v, .int 0, .int 0, .int (nI k)].set 3 (.int (nI k + 1))))).1 v = some (.inl (1, 16, .inl g)) := (hst_ne (Ne.symm hne)).trans h2
  rw [haI_of g2, wt_bd_s, wt_ck_t (by rw [vp_nI (by omega)]; exact hk), wp_lt_id, wt_bd_s, rs_r, u3, nI_clamp (by omega), wt_bd_s, wt_ck_t (hcl_of h1), wp_some]
  refine ⟨⟨?_, hst_eq⟩, (Fr.st h1 (by simp)).trans (Fr.st g2 (by simp)), rfl⟩
  rw [hst_ne hne, hst_eq, nI_1]
  rfl
/-- a string at s with its row a: k signs g; its hash field, its mark -/
def SgR (τ : HP) (s a k : Nat) (g : Nat → Int32) (h z : Int32) : Prop := τ.1 s = some (.inr (15, [.ref a, .int 0, .int h, .int z])) ∧ τ.1 a = some (.inl (1, k, .inl g))
theorem sb_str {τ : HP} {b v k : Nat} {g : Nat → Int32} (hf : Wf τ) (h : SbR τ b v k g) (hk : k ≤ 7) (hg : ∀ i, i < k → fits .byte (.int (g i)) = true) : wp (eJ8_toString τ b) (fun r => ∃ a g', τ.2 ≤ r.1 ∧ τ.2 ≤ a ∧ SgR r.2 r.1 a k g' 0 0 ∧ (∀ i, i < k → g' i = g i) ∧ Fr [] τ r.2 ∧ r.2.2 = τ.2 + 2) := by
  obtain ⟨h1, h2⟩ := h
  have hb := hf b _ h1
  have hv := hf v _ h2
  have z0 : (0 : Int32).toNatClampNeg = 0 := by decide
  have zn : ¬ (0 : Int32) < 0 := by decide
  unfold eJ8_toString
  rw [wp_lt]
  have a1 : (hnew τ (.inr (15, [.null, .int 0, .int 0, .int 0]))).1 τ.2 = some (.inr (15, [.null, .int 0, .int 0, .int 0])) := hnew_eq
  have a2 : (hnew τ (.inr (15, [.null, .int 0, .int 0, .int 0]))).1 b = some (.inr (14, [.ref v, .int 0, .int 0, .int (nI k)])) := (hnew_ne (by omega)).trans h1
  have a3 : (hnew τ (.inr (15, [.null, .int 0, .int 0, .int 0]))).1 v = some (.inl (1, 16, .inl g)) := (hnew_ne (by omega)).trans h2
  have a4 : (hnew τ (.inr (15, [.null, .int 0, .int 0, .int 0]))).2 = τ.2 + 1 := rfl
  have aF : Fr [] τ (hnew τ (.inr (15, [.null, .int 0, .int 0, .int 0]))) := Fr.new
  generalize hnew τ (.inr (15, [.null, .int 0, .int 0, .int 0])) = t1 at a1 a2 a3 a4 aF
  unfold eJ9_init eJ9_init_2
  rw [wt_ck_t (hcl_of a2)]
  unfold eJ7_getValue
  rw [hgA_of (cs := [14]) (k := 0) a2 rfl rfl, wt_bd_s, wt_bd_s, wt_ck_t (hcl_of a2), sb_len ⟨a2, a3⟩, wt_bd_s, wt_ck_t (hcl_of a2)]
  have e2 : eJ7_isLatin1 t1 b = some 1 := by
    unfold eJ7_isLatin1
    rw [if_neg (by decide), hgI_of (cs := [14]) (k := 1) a2 rfl rfl, wt_bd_s, if_pos rfl]
  rw [e2, wt_bd_s, if_neg (by decide), hp_of (cs := [15]) (k := 1) a1 rfl (by omega) (by simp), wt_bd_s]
  have b1 : (hst t1 τ.2 (.inr (15, [Value.null, .int 0, .int 0, .int 0].set 1 (.int 0)))).1 τ.2 = some (.inr (15, [.null, .int 0, .int 0, .int 0])) := hst_eq
  have b3 : (hst t1 τ.2 (.inr (15, [Value.null, .int 0, .int 0, .int 0].set 1 (.int 0)))).1 v = some (.inl (1, 16, .inl g)) := (hst_ne (by omega)).trans a3
  have b4 : (hst t1 τ.2 (.inr (15, [Value.null, .int 0, .int 0, .int 0].set 1 (.int 0)))).2 = τ.2 + 1 := a4
  have bF : Fr [] τ (hst t1 τ.2 (.inr (15, [Value.null, .int 0, .int 0, .int 0].set 1 (.int 0)))) := aF.then (V := [τ.2]) (Fr.st a1 (by simp)) fun q hq => Or.inr (by
    have : q = τ.2 := by simpa using hq
    omega)
  generalize hst t1 τ.2 (.inr (15, [Value.null, .int 0, .int 0, .int 0].set 1 (.int 0))) = t2 at b1 b3 b4 bF
  unfold eJ13_copyOfRange
  rw [if_pos rfl, hln_of b3, wt_bd_s, if_neg (by
    rw [show Int32.ofNat 16 = nI 16 from rfl, nI_eq (by omega) (by omega)]
    omega), wt_bd_s]
  unfold eJ13_copyOfRangeByte eJ13_checkLength
  rw [if_pos (nI_pos' (by omega)), wt_bd_s]
  have e5 : nI k - 0 = nI k := Int32.sub_zero _
  rw [e5, wp_lt_id, nI_clamp (by omega), wt_ck_t ⟨nI_pos (by omega), by omega⟩, wp_lt_id]
  have c3 : (hnew t2 (.inl (1, k, .inl (fun _ => 0)))).1 v = some (.inl (1, 16, .inl g)) := (hnew_ne (by omega)).trans b3
  have c1 : (hnew t2 (.inl (1, k, .inl (fun _ => 0)))).1 t2.2 = some (.inl (1, k, .inl (fun _ => 0))) := hnew_eq
  have c2 : (hnew t2 (.inl (1, k, .inl (fun _ => 0)))).1 τ.2 = some (.inr (15, [.null, .int 0, .int 0, .int 0])) := (hnew_ne (by omega)).trans b1
  have cF : Fr [] τ (hnew t2 (.inl (1, k, .inl (fun _ => 0)))) := bF.trans Fr.new
  have c4 : (hnew t2 (.inl (1, k, .inl (fun _ => 0)))).2 = τ.2 + 2 := by show t2.2 + 1 = _; omega
  generalize hnew t2 (.inl (1, k, .inl (fun _ => 0))) = t3 at c1 c2 c3 c4 cF
  have emin : wt_min (Int32.ofNat 16 - 0) (nI k) = nI k := by
    unfold wt_min
    rw [show Int32.ofNat 16 - 0 = nI 16 from by decide]
    by_cases q : nI k < nI 16
    · rw [if_pos q]
    · rw [nI_ltI (by omega) (by omega)] at q
      omega
  rw [hln_of c3, wt_bd_s, haI_of c3, wt_bd_s, haI_of c1, wt_bd_s, emin, z0, nI_clamp (by omega), wt_ck_t ⟨zn, zn, nI_pos (by omega), by show 0 + k ≤ 16; omega, by show 0 + k ≤ k; omega⟩, wt_ck_t (by
    intro i hi
    show fits .byte (.int (g (0 + i))) = true
    rw [Nat.zero_add]
    exact hg i hi), wp_lt_id, wt_bd_s, wt_bd_s]
  dsimp only
  have d2 : (hst t3 t2.2 (.inl (1, k, .inl (va_cpy g (fun _ => 0) 0 0 k)))).1 τ.2 = some (.inr (15, [.null, .int 0, .int 0, .int 0])) := (hst_ne (by omega)).trans c2
  rw [hp_of (cs := [15]) (k := 0) d2 rfl (by omega) (by simp), wt_bd_s, wt_bd_s, wt_bd_s, wp_some]
  refine ⟨t2.2, va_cpy g (fun _ => 0) 0 0 k, Nat.le_refl _, by omega, ⟨hst_eq, (hst_ne (by omega)).trans hst_eq⟩, fun i hi => ?_, ?_, c4⟩
  · unfold va_cpy
    rw [if_pos ⟨by omega, by omega⟩, show 0 + (i - 0) = i from by omega]
  · refine cF.then (V := [τ.2, t2.2]) ((Fr.st c1 (by simp)).trans (Fr.st d2 (by simp))) fun q hq => Or.inr (by
      have : q = τ.2 ∨ q = t2.2 := by simpa using hq
      omega)
theorem sg_len {τ : HP} {s a k : Nat} {g : Nat → Int32} {h z : Int32} (hS : SgR τ s a k g h z) (hk : k < 2 ^ 31) : eJ9_length τ s = some (nI k) := by
  obtain ⟨h1, h2⟩ := hS
  unfold eJ9_length eJ9_coder
  rw [hgA_of (cs := [15]) (k := 0) h1 rfl rfl, wt_bd_s, hln_of h2, wt_bd_s, wt_ck_t (hcl_of h1), if_neg (by decide), hgI_of (cs := [15]) (k := 1) h1 rfl rfl, wt_bd_s, wt_ck_t (by first | rfl | decide), wt_bd_s]
  exact congrArg some (sc_shr0 hk)
def jh (g : Nat → Int32) : Nat → Int32
  | 0 => 0
  | k + 1 => (31 : Int32) * jh g k + (g k &&& (255 : Int32))
theorem jhash {τ : HP} {a k : Nat} {g : Nat → Int32} (h : τ.1 a = some (.inl (1, k, .inl g))) (hk : k < 2 ^ 31) : eJ15_hashCode τ a = some (jh g k) := by
  unfold eJ15_hashCode
  rw [hln_of h, wt_bd_s]
  by_cases c0 : k = 0
  · subst c0
    rw [if_pos (by decide)]
    rfl
  · rw [if_neg (by
      show ¬ nI k = 0
      rw [z_eq hk]; exact c0)]
    by_cases c1 : k = 1
    · subst c1
      rw [if_pos (by decide), haI_of h, wt_bd_s, wt_ck_t (by rw [vp_0]; show 0 < 1; omega)]
      show some (g ((0 : Int32).toNatClampNeg) &&& (255 : Int32)) = some ((31 : Int32) * 0 + (g 0 &&& (255 : Int32)))
      rw [show (0 : Int32).toNatClampNeg = 0 from by decide, show (31 : Int32) * 0 = 0 from by decide, Int32.zero_add]
    · rw [if_neg (by
        show ¬ nI k = nI 1
        rw [nI_eq hk (by omega)]; exact c1), wt_bd_s]
      unfold eJ11_vectorizedHashCode eJ11_signedHashCode
      rw [if_pos rfl, hln_of h, wt_bd_s, wp_lt_id, show (0 : Int32) + Int32.ofNat k = nI k from Int32.zero_add _]
      have key : wt_whC (bJ11_signedHashCode_1 τ a (nI k)) ((0 : Int32), (0 : Int32)) = some (jh g k) := by
        apply wp_eq
        refine wp_for k 0 (fun i v => v = (jh g i, nI i)) (by omega) rfl ?_ ?_
        · rintro i v hi rfl
          unfold bJ11_signedHashCode_1
          dsimp only
          rw [wp_ite, if_neg (by rw [nI_leI (by omega) (by omega)]; omega), haI_of h, wt_bd_s, wt_ck_t (by rw [vp_nI (by omega)]; exact hi), nI_clamp (by omega), wp_lt, wp_lt, wp_some, lpo_l, nI_1]
          rfl
        · rintro v rfl
          unfold bJ11_signedHashCode_1
          dsimp only
          rw [wp_ite, if_pos (by rw [nI_leI (by omega) (by omega)]; omega), wp_some, lpo_r]
      rw [key, wt_bd_s, wt_bd_s, wt_bd_s]
/-- the hash field is not yet filled, or filled -/
def HsOk (g : Nat → Int32) (k : Nat) (h z : Int32) : Prop := (h = 0 ∧ z = 0) ∨ (h = jh g k ∧ (¬ h = 0 ∨ ¬ z = 0))
theorem sg_hash {τ : HP} {s a k : Nat} {g : Nat → Int32} {h z : Int32} (hS : SgR τ s a k g h z) (hO : HsOk g k h z) (hk : k < 2 ^ 31) : wp (eJ9_hashCode τ s) (fun r => r.1 = jh g k ∧ (∃ h' z', SgR r.2 s a k g h' z' ∧ HsOk g k h' z') ∧ Fr [s] τ r.2 ∧ r.2.2 = τ.2) := by
  obtain ⟨h1, h2⟩ := hS
  have hne : s ≠ a := by
    intro e
    rw [e, h2] at h1
    cases h1
  unfold eJ9_hashCode
  rw [hgI_of (cs := [15]) (k := 2) h1 rfl rfl, wt_bd_s, wp_ite]
  by_cases c : h = 0
  · rw [if_pos c, hgI_of (cs := [15]) (k := 3) h1 rfl rfl, wt_bd_s, wp_ite]
    by_cases c2 : z = 0
    · have e2 : eJ9_isLatin1 τ s = some 1 := by
        unfold eJ9_isLatin1
        rw [if_neg (by decide), hgI_of (cs := [15]) (k := 1) h1 rfl rfl, wt_bd_s, if_pos rfl]
      rw [if_pos c2, wt_ck_t (hcl_of h1), e2, wt_bd_s, wp_ite, if_neg (by decide), hgA_of (cs := [15]) (k := 0) h1 rfl rfl, wt_bd_s, jhash h2 hk, wt_bd_s, wp_ite]
      by_cases c3 : jh g k = 0
      · rw [if_pos c3, hp_of (cs := [15]) (k := 3) h1 rfl (by omega) (by simp), wt_bd_s, wp_some]
        refine ⟨rfl, ⟨h, 1, ⟨hst_eq, (hst_ne (Ne.symm hne)).trans h2⟩, Or.inr ⟨by rw [c, c3], Or.inr (by decide)⟩⟩, Fr.st h1 (by simp), rfl⟩
      · rw [if_neg c3, hp_of (cs := [15]) (k := 2) h1 rfl (by omega) (by simp), wt_bd_s, wp_some]
        refine ⟨rfl, ⟨jh g k, z, ⟨hst_eq, (hst_ne (Ne.symm hne)).trans h2⟩, Or.inr ⟨rfl, Or.inl c3⟩⟩, Fr.st h1 (by simp), rfl⟩
    · rw [if_neg c2, wp_some]
      rcases hO with ⟨-, q⟩ | ⟨q, q2⟩
      · exact absurd q c2
      · exact ⟨q, ⟨h, z, ⟨h1, h2⟩, Or.inr ⟨q, q2⟩⟩, Fr.rfl, rfl⟩
  · rw [if_neg c, wp_some]
    rcases hO with ⟨q, -⟩ | ⟨q, q2⟩
    · exact absurd q c
    · exact ⟨q, ⟨h, z, ⟨h1, h2⟩, Or.inr ⟨q, q2⟩⟩, Fr.rfl, rfl⟩
/-- a String constant at a: the signs L -/
def LtR (τ : HP) (a : Nat) (L : List Nat) : Prop := ∃ la rest lg, τ.1 a = some (.inr (16, .ref la :: .int 0 :: rest)) ∧ τ.1 la = some (.inl (5, L.length, .inl lg)) ∧ ∀ i c, L[i]? = some c → lg i = nI c
/-- the signs g (k of them) are those of L -/
def Same (g : Nat → Int32) (k : Nat) (L : List Nat) : Prop := k = L.length ∧ ∀ i c, L[i]? = some c → g i = nI c
theorem sg_eq {τ : HP} {s a k l : Nat} {g : Nat → Int32} {h z : Int32} {L : List Nat} (hS : SgR τ s a k g h z) (hL : LtR τ l L) (hk : k < 2 ^ 31) (hl : L.length < 2 ^ 31) : ∃ r : Int32, eJ9_equals τ s l = some r ∧ (Same g k L → r = 1) ∧ (¬ Same g k L → r = 0) := by
  obtain ⟨h1, h2⟩ := hS
  obtain ⟨la, rest, lg, l1, l2, l3⟩ := hL
  have hne : s ≠ l := by
    intro e
    rw [e, l1] at h1
    cases h1
  have key : ∃ r : Int32, eJ15_equals τ a la = some r ∧ (Same g k L → r = 1) ∧ (¬ Same g k L → r = 0) := by
    unfold eJ15_equals
    rw [hln_of h2, wt_bd_s, hln_of l2, wt_bd_s]
    by_cases c : k = L.length
    · rw [if_pos (by rw [c])]
      have loop : ∃ q : Unit ⊕ Int32, wt_whC (bJ15_equals_1 τ a la) (0 : Int32) = some q ∧ ((q = .inl () ∧ Same g k L) ∨ (q = .inr 0 ∧ ¬ Same g k L)) := by
        refine wp_for k 0 (fun i v => v = nI i ∧ ∀ j c, j < i → L[j]? = some c → g j = nI c) (Q := fun q : Unit ⊕ Int32 => (q = Sum.inl () ∧ Same g k L) ∨ (q = Sum.inr 0 ∧ ¬ Same g k L)) (by omega) ⟨rfl, fun j _ hj => by omega⟩ ?_ ?_
        · rintro i v hi ⟨rfl, hq⟩
          have hi2 : i < L.length := by omega
          have e1 := List.getElem?_eq_getElem hi2
          have e2 := l3 i _ e1
          unfold bJ15_equals_1
          rw [hln_of h2, wt_bd_s, wp_ite, if_neg (by show ¬ nI k ≤ nI i; rw [nI_leI (by omega) (by omega)]; omega), haI_of h2, wt_bd_s, wt_ck_t (by rw [vp_nI (by omega)]; exact hi), haI_of l2, wt_bd_s, wt_ck_t (by rw [vp_nI (by omega)]; exact hi2), nI_clamp (by omega), wp_ite]
          rw [show ((L.length, lg) : Nat × (Nat → Int32)).2 i = nI L[i] from e2, show ((k, g) : Nat × (Nat → Int32)).2 i = g i from rfl]
          by_cases c2 : g i = nI L[i]
          · rw [if_pos c2, wp_lt, wp_some, lpo_l, nI_1]
            refine ⟨rfl, fun j c hj hc => ?_⟩
            by_cases c3 : j = i
            · subst c3
              rw [e1] at hc
              cases hc
              exact c2
            · exact hq j c (by omega) hc
          · rw [if_neg c2, wp_some, lpo_r]
            exact Or.inr ⟨rfl, fun z => c2 (z.2 i _ e1)⟩
        · rintro v ⟨rfl, hq⟩
          unfold bJ15_equals_1
          rw [hln_of h2, wt_bd_s, wp_ite, if_pos (by show nI k ≤ nI k; rw [nI_leI (by omega) (by omega)]; omega), wp_some, lpo_r]
          refine Or.inl ⟨rfl, c, fun i c' hc => hq i c' ?_ hc⟩
          rcases Nat.lt_or_ge i L.length with q | q
          · omega
          · rw [List.getElem?_eq_none q] at hc; cases hc
      obtain ⟨q, e, hq⟩ := loop
      rw [e, wt_bd_s]
      rcases hq with ⟨e1, e2⟩ | ⟨e1, e2⟩
      · subst e1
        exact ⟨1, rfl, fun _ => rfl, fun z => absurd e2 z⟩
      · subst e1
        exact ⟨0, rfl, fun z => absurd z e2, fun _ => rfl⟩
    · rw [if_neg (show ¬ Int32.ofNat k = Int32.ofNat L.length from fun z => c ((nI_eq hk hl).mp z))]
      exact ⟨0, rfl, fun z => absurd z.1 c, fun _ => rfl⟩
  obtain ⟨r, k1, k2, k3⟩ := key
  refine ⟨r, ?_, k2, k3⟩
  unfold eJ9_equals
  rw [if_neg hne, wt_ck_t (hcl_of l1), if_neg (by decide), wt_ck_t (hcl_of l1), if_neg (by decide), hgI_of (cs := [15]) (k := 1) h1 rfl rfl, wt_bd_s, hgI_of (cs := [16]) (k := 1) l1 rfl rfl, wt_bd_s, if_pos rfl, wt_bd_s, rs_l, hgA_of (cs := [15]) (k := 0) h1 rfl rfl, wt_bd_s, hgA_of (cs := [16]) (k := 0) l1 rfl rfl, wt_bd_s, k1, wt_bd_s]
  by_cases c : Same g k L
  · rw [k2 c, if_neg (by decide)]
  · rw [k3 c, if_pos rfl]
/-- the hash of the same signs -/
theorem jh_same {g : Nat → Int32} : ∀ (L : List Nat) (k : Nat), Same g k L → (∀ c, c ∈ L → c < 128) → jh g k = jh (fun i => nI (L.getD i 0)) L.length := by
  intro L k h hL
  obtain ⟨h1, h2⟩ := h
  subst h1
  have key : ∀ j, j ≤ L.length → jh g j = jh (fun i => nI (L.getD i 0)) j := by
    intro j
    induction j with
    | zero => intro _; rfl
    | succ j ih =>
      intro hj
      have e1 := List.getElem?_eq_getElem (show j < L.length by omega)
      show (31 : Int32) * jh g j + (g j &&& (255 : Int32)) = (31 : Int32) * jh (fun i => nI (L.getD i 0)) j + (nI (L.getD j 0) &&& (255 : Int32))
      rw [ih (by omega), h2 j _ e1, List.getD_eq_getElem?_getD, e1]
      rfl
  exact key _ (Nat.le_refl _)
/-! THE PLAIN LAW, 16: the component's reader: signs, words, numbers -/
set_option maxRecDepth 100000
/-- the reader at o: the text at tp, n signs, at p; fr: where the last number began -/
def RdR (τ : HP) (o tp n p : Nat) (fr : Int32) : Prop := τ.1 o = some (.inr (3, [.ref tp, .int (nI n), .int (nI p), .int fr]))
def TxR (τ : HP) (tp : Nat) (tx : Nat → Nat) : Prop := ∃ f, τ.1 tp = some (.inl (1, 400, .inl f)) ∧ ∀ k, k < 400 → f k = sbI (tx k) ∧ tx k < 256
theorem TxR.keep {W : List Nat} {τ τ' : HP} {tp : Nat} {tx : Nat → Nat} (h : TxR τ tp tx) (hF : Fr W τ τ') (hf : Wf τ) (hw : tp ∉ W) : TxR τ' tp tx := by
  obtain ⟨f, h1, h2⟩ := h
  exact ⟨f, hF.at hf h1 hw, h2⟩
def cv (tx : Nat → Nat) (n q : Nat) : Int32 := if q < n then sbI (tx q) else 0
theorem fr_o {τ : HP} {o : Nat} {x y : HC} (h : τ.1 o = some y) : Fr [o] τ (hst τ o x) := Fr.st h (by simp)
theorem ne_rt {τ : HP} {o tp n p : Nat} {fr : Int32} {f : Nat → Int32} (h : RdR τ o tp n p fr) (ht : τ.1 tp = some (.inl (1, 400, .inl f))) : o ≠ tp := by
  intro e
  unfold RdR at h
  rw [e, ht] at h
  cases h
theorem csign {τ : HP} {o tp n p : Nat} {fr : Int32} {tx : Nat → Nat} (h : RdR τ o tp n p fr) (ht : TxR τ tp tx) (hn : n ≤ 400) (hp : p ≤ n) : wp (eX5_sign τ o) (fun r => r.1 = cv tx n (skB tx n p) ∧ RdR r.2 o tp n (skB tx n p) fr ∧ Fr [o] τ r.2 ∧ r.2.2 = τ.2) := by
  obtain ⟨f, t1, t2⟩ := ht
  have hv : ∀ k, k < 400 → ((400, f) : Nat × (Nat → Int32)).2 k = sbI (tx k) := fun k hk => (t2 k hk).1
  have hne := ne_rt h t1
  obtain ⟨hq1, hq2⟩ := skB_le (tx := tx) hp
  unfold eX5_sign
  have key : wp (wt_whC (bX5_sign_1 o) τ) (fun t => RdR t o tp n (skB tx n p) fr ∧ t.1 tp = some (.inl (1, 400, .inl f)) ∧ Fr [o] τ t ∧ t.2 = τ.2) := by
    refine wp_loop (fun m t => ∃ q, m = n - q ∧ q ≤ n ∧ RdR t o tp n q fr ∧ t.1 tp = some (.inl (1, 400, .inl f)) ∧ Fr [o] τ t ∧ t.2 = τ.2 ∧ skB tx n q = skB tx n p) ?_ (n - p) _ ⟨p, rfl, hp, h, t1, Fr.rfl, rfl, rfl⟩
    rintro m t ⟨q, rfl, hq, hR, hT, hF, hz, e⟩
    unfold bX5_sign_1
    rw [hgI_of (cs := [3]) (k := 2) hR rfl rfl, wt_bd_s, hgI_of (cs := [3]) (k := 1) hR rfl rfl, wt_bd_s, wp_ite]
    rcases Nat.lt_or_ge q n with hlt | hge
    · have hb := (t2 q (by omega)).2
      have st := (sb_t (tx q) hb).1
      rw [if_neg (by rw [nI_leI (by omega) (by omega)]; omega), hgA_of (cs := [3]) (k := 0) hR rfl rfl, wt_bd_s, wt_bd_s, haI_of hT, wt_bd_s, wt_ck_t (by rw [vp_nI (by omega)]; show q < 400; omega), nI_clamp (by omega), wp_ite, hv q (by omega)]
      by_cases c : isB tx n q = true
      · have c2 := of_decide_eq_true c
        rw [if_pos (st.mpr c2.2), wt_bd_s, hp_of (cs := [3]) (k := 2) hR rfl (by omega) (by simp), wt_bd_s, wp_some, lpo_l, nI_1]
        refine ⟨n - (q + 1), by omega, q + 1, rfl, hlt, hst_eq, (hst_ne (Ne.symm hne)).trans hT, hF.trans (fr_o hR), hz, ?_⟩
        rw [← e]
        exact (eo_step isB_lt c).symm
      · rw [if_neg (fun z => c (decide_eq_true ⟨hlt, st.mp z⟩)), wp_some, lpo_r]
        have e2 : skB tx n q = q := eo_end c
        rw [e2] at e
        rw [← e]
        exact ⟨hR, hT, hF, hz⟩
    · have e2 : skB tx n q = q := eo_end (fun z => by have := isB_lt _ z; omega)
      rw [e2] at e
      rw [if_pos (by rw [nI_leI (by omega) (by omega)]; exact hge), wp_some, lpo_r, ← e]
      exact ⟨hR, hT, hF, hz⟩
  refine wp_ap key fun t ⟨k1, k2, k3, k4⟩ => ?_
  generalize skB tx n p = q at hq1 hq2 k1
  rw [hgI_of (cs := [3]) (k := 2) k1 rfl rfl, wt_bd_s, hgI_of (cs := [3]) (k := 1) k1 rfl rfl, wt_bd_s, wp_ite]
  unfold cv
  rcases Nat.lt_or_ge q n with hlt | hge
  · rw [if_neg (by rw [nI_leI (by omega) (by omega)]; omega), if_pos hlt, hgA_of (cs := [3]) (k := 0) k1 rfl rfl, wt_bd_s, wt_bd_s, haI_of k2, wt_bd_s, wt_ck_t (by rw [vp_nI (by omega)]; show q < 400; omega), nI_clamp (by omega), wp_some]
    exact ⟨(t2 q (by omega)).1, k1, k3, k4⟩
  · rw [if_pos (by rw [nI_leI (by omega) (by omega)]; exact hge), if_neg (by omega), wp_some]
    exact ⟨rfl, k1, k3, k4⟩
/-- the word's signs, as the string has them: seven at the most -/
def wk (tx : Nat → Nat) (n q : Nat) : Nat := if wlen tx n q ≤ 7 then wlen tx n q else 7
theorem cword {τ : HP} {o tp n p : Nat} {fr : Int32} {tx : Nat → Nat} (hf : Wf τ) (h : RdR τ o tp n p fr) (ht : TxR τ tp tx) (hn : n ≤ 400) (hp : p ≤ n) : wp (eX5_word τ o) (fun r => ∃ a g, τ.2 ≤ r.1 ∧ τ.2 ≤ a ∧ SgR r.2 r.1 a (wk tx n (skB tx n p)) g 0 0 ∧ (∀ i, i < wk tx n (skB tx n p) → g i = nI (tx (skB tx n p + i))) ∧ RdR r.2 o tp n (skB tx n p) fr ∧ Fr [o] τ r.2) := by
  obtain ⟨hq1, hq2⟩ := skB_le (tx := tx) hp
  unfold eX5_word
  rw [wt_ck_t (hcl_of h)]
  refine wp_ap (csign h ht hn hp) fun out ⟨_, a2, a3, a4⟩ => ?_
  obtain ⟨c0, t0⟩ := out
  dsimp only at a2 a3 a4 ⊢
  generalize skB tx n p = q at hq1 hq2 a2
  have hwl : q + wlen tx n q ≤ n := by
    have := skL_le (tx := tx) hq2
    unfold wlen
    omega
  have hwk : wk tx n q ≤ 7 ∧ wk tx n q ≤ wlen tx n q := by
    unfold wk
    split <;> omega
  have hf0 := a3.1 hf
  have ho : o < τ.2 := hf o _ h
  obtain ⟨f, t1, t2⟩ := ht
  have hv : ∀ k, k < 400 → ((400, f) : Nat × (Nat → Int32)).2 k = sbI (tx k) := fun k hk => (t2 k hk).1
  have hne := ne_rt h t1
  have htp : tp < τ.2 := hf tp _ t1
  have t3 := a3.at hf t1 (by simpa using Ne.symm hne)
  rw [wp_lt]
  have b1 : (hnew t0 (.inr (14, [.null, .int 0, .int 0, .int 0]))).1 t0.2 = some (.inr (14, [.null, .int 0, .int 0, .int 0])) := hnew_eq
  have b2 : RdR (hnew t0 (.inr (14, [.null, .int 0, .int 0, .int 0]))) o tp n q fr := (hnew_ne (by omega)).trans a2
  have b3 : (hnew t0 (.inr (14, [.null, .int 0, .int 0, .int 0]))).1 tp = some (.inl (1, 400, .inl f)) := (hnew_ne (by omega)).trans t3
  have bF : Fr [] t0 (hnew t0 (.inr (14, [.null, .int 0, .int 0, .int 0]))) := Fr.new
  have bz : (hnew t0 (.inr (14, [.null, .int 0, .int 0, .int 0]))).2 = t0.2 + 1 := rfl
  have bw := bF.1 hf0
  generalize hnew t0 (.inr (14, [.null, .int 0, .int 0, .int 0])) = t4 at b1 b2 b3 bF bz bw
  refine wp_ap (sb_init bw b1) fun t5 ⟨g0, c1, c2, c3⟩ => ?_
  have hF5 : Fr [] t0 t5 := bF.then c2 fun q hq => Or.inr (by
    have : q = t0.2 := by simpa using hq
    omega)
  have c4 : RdR t5 o tp n q fr := c2.at bw b2 (by simp; omega)
  have c5 := c2.at bw b3 (by simp; omega)
  rw [hgI_of (cs := [3]) (k := 2) c4 rfl rfl, wt_bd_s]
  have key : wp (wt_whC (bX5_word_1 o (c0, t0)) (nI q, t5)) (fun t => ∃ g, SbR t t0.2 t4.2 (wk tx n q) g ∧ (∀ i, i < wk tx n q → g i = nI (tx (q + i))) ∧ RdR t o tp n q fr ∧ Fr [] t0 t) := by
    refine wp_for (wk tx n q) 0 (fun k v => ∃ g t, v = (nI (q + k), t) ∧ SbR t t0.2 t4.2 k g ∧ (∀ i, i < k → g i = nI (tx (q + i))) ∧ RdR t o tp n q fr ∧ t.1 tp = some (.inl (1, 400, .inl f)) ∧ Fr [] t0 t) (by omega) ⟨g0, t5, rfl, c1, fun i hi => by omega, c4, c5, hF5⟩ ?_ ?_
    · rintro k v hk ⟨g, t, rfl, d1, d2, d3, d4, d5⟩
      have hL : isL tx n (q + k) = true := eo_in (isL tx n) (n - q) q (q + k) (by omega) (by unfold wlen skL at hwk; unfold wlen skL at hwl; omega)
      have hL2 := of_decide_eq_true hL
      have hb := (t2 (q + k) (by omega)).2
      have st := sb_t (tx (q + k)) hb
      have sl := st.2.1.mpr hL2.2
      have se := st.2.2.2.2 (by omega)
      unfold bX5_word_1
      dsimp only
      rw [hgI_of (cs := [3]) (k := 1) d3 rfl rfl, wt_bd_s, wp_ite, if_neg (by rw [nI_leI (by omega) (by omega)]; omega), hgA_of (cs := [3]) (k := 0) d3 rfl rfl, wt_bd_s, haI_of d4, wt_bd_s, wt_ck_t (by rw [vp_nI (by omega)]; show _ < 400; omega), nI_clamp (by omega), wp_ite, hv (q + k) (by omega), if_neg sl.1, wt_bd_s, haI_of d4, wt_bd_s, wt_ck_t (by rw [vp_nI (by omega)]; show _ < 400; omega), wp_ite, hv (q + k) (by omega), if_neg sl.2, wt_ck_t (hcl_of d1.1), sb_len d1, wt_bd_s, wp_ite, if_neg (by rw [q_7, nI_leI (by omega) (by omega)]; omega), wt_bd_s, haI_of d4, wt_bd_s, wt_ck_t (by rw [vp_nI (by omega)]; show _ < 400; omega), wt_ck_t (hcl_of d1.1), hv (q + k) (by omega), se, (sb_u (tx (q + k)) (by omega)).1]
      refine wp_ap (sb_app d1 (by omega) (by omega)) fun r ⟨e1, e2, e3⟩ => ?_
      rw [wp_lt, wp_some, lpo_l, nI_1]
      have w5 := d5.1 hf0
      refine ⟨_, r.2, rfl, e1, fun i hi => ?_, e2.at w5 d3 (by simp; omega), e2.at w5 d4 (by simp; omega), d5.then e2 fun z hz => Or.inr (by
        have : z = t0.2 ∨ z = t4.2 := by simpa using hz
        omega)⟩
      show (if i = k then _ else _) = _
      by_cases c : i = k
      · rw [if_pos c, c]
      · rw [if_neg c]; exact d2 i (by omega)
    · rintro v ⟨g, t, rfl, d1, d2, d3, d4, d5⟩
      have fin : lpo (fun _ : Int32 × HP => False) (fun t => ∃ g, SbR t t0.2 t4.2 (wk tx n q) g ∧ (∀ i, i < wk tx n q → g i = nI (tx (q + i))) ∧ RdR t o tp n q fr ∧ Fr [] t0 t) (Sum.inr t) := ⟨g, d1, d2, d3, d5⟩
      unfold bX5_word_1
      dsimp only
      rw [hgI_of (cs := [3]) (k := 1) d3 rfl rfl, wt_bd_s, wp_ite]
      by_cases c0 : n ≤ q + wk tx n q
      · rw [if_pos (by rw [nI_leI (by omega) (by omega)]; exact c0), wp_some]
        exact fin
      · have hb := (t2 (q + wk tx n q) (by omega)).2
        have st := sb_t (tx (q + wk tx n q)) hb
        rw [if_neg (by rw [nI_leI (by omega) (by omega)]; exact c0), hgA_of (cs := [3]) (k := 0) d3 rfl rfl, wt_bd_s, haI_of d4, wt_bd_s, wt_ck_t (by rw [vp_nI (by omega)]; show _ < 400; omega), nI_clamp (by omega), wp_ite, hv (q + wk tx n q) (by omega)]
        by_cases c1 : sbI (tx (q + wk tx n q)) < 97
        · rw [if_pos c1, wp_some]
          exact fin
        · rw [if_neg c1, wt_bd_s, haI_of d4, wt_bd_s, wt_ck_t (by rw [vp_nI (by omega)]; show _ < 400; omega), wp_ite, hv (q + wk tx n q) (by omega)]
          by_cases c2 : 122 < sbI (tx (q + wk tx n q))
          · rw [if_pos c2, wp_some]
            exact fin
          · have hlet := st.2.1.mp ⟨c1, c2⟩
            have h7 : wk tx n q = 7 := by
              by_cases z : wlen tx n q ≤ 7
              · have e : wk tx n q = wlen tx n q := if_pos z
                have e2 : q + wk tx n q = skL tx n q := by
                  have := skL_le (tx := tx) hq2
                  rw [e]
                  unfold wlen
                  omega
                have e3 : ¬ isL tx n (skL tx n q) = true := eo_stop isL_lt _ _ (by omega)
                rw [← e2] at e3
                exact absurd (decide_eq_true ⟨by omega, hlet⟩) e3
              · exact if_neg z
            rw [if_neg c2, wt_ck_t (hcl_of d1.1), sb_len d1, wt_bd_s, wp_ite, if_pos (by rw [h7]; decide), wp_some]
            exact fin
  refine wp_ap key fun t6 ⟨g, e1, e2, e3, e4⟩ => ?_
  rw [wt_ck_t (hcl_of e1.1)]
  have w6 := e4.1 hf0
  refine wp_ap (sb_str w6 e1 hwk.1 fun i hi => ?_) fun r ⟨a, g', k1, k2, k3, k4, k5, k6⟩ => ?_
  · rw [e2 i hi]
    have hL : isL tx n (q + i) = true := eo_in (isL tx n) (n - q) q (q + i) (by omega) (by unfold wlen skL at hwk; unfold wlen skL at hwl; omega)
    have hL2 := of_decide_eq_true hL
    exact (sb_u (tx (q + i)) (by omega)).2.2.2
  · rw [wp_some]
    have m1 := e4.2.1
    have m2 := a3.2.1
    refine ⟨a, g', by show τ.2 ≤ r.1; omega, by omega, k3, fun i hi => (k4 i hi).trans (e2 i hi), k5.at w6 e3 (by simp), a3.then (e4.trans k5) (fun q hq => by simp at hq)⟩
/-! faults -/
/-- a fault object at a -/
def WrR (τ : HP) (a k pl : Nat) : Prop := ∃ fs, τ.1 a = some (.inr (4, fs)) ∧ fs[6]? = some (.int (nI k)) ∧ fs[7]? = some (.int (nI pl))
theorem cwrong0 {τ : HP} {a : Nat} {k pl : Int32} (h : τ.1 a = some (.inr (4, [.null, .null, .null, .null, .null, .int 0, .int 0, .int 0]))) : wp (eX6_init τ a k pl) (fun t => t.1 a = some (.inr (4, [.null, .null, .null, .null, .null, .int 0, .int k, .int pl])) ∧ Fr [a] τ t ∧ t.2 = τ.2) := by
  have z : ∀ us : Nat → Option Nat, zJ3_init_3 us τ a 0 0 = some (hst τ a (.inr (4, [.null, .null, .null, .null, .null, .int 0, .int 0, .int 0]))) := by
    intro us
    unfold zJ3_init_3
    rw [hp_of (cs := [4]) (k := 0) h rfl (by omega) (by simp), wt_bd_s, hp_of (cs := [4]) (k := 1) hst_eq rfl (by omega) (by simp), wt_bd_s, hst_hst, hp_of (cs := [4]) (k := 2) hst_eq rfl (by omega) (by simp), wt_bd_s, hst_hst, if_pos rfl, hp_of (cs := [4]) (k := 1) hst_eq rfl (by omega) (by simp), wt_bd_s, hst_hst, hp_of (cs := [4]) (k := 3) hst_eq rfl (by omega) (by simp), wt_bd_s, hst_hst, hp_of (cs := [4]) (k := 0) hst_eq rfl (by omega) (by simp), wt_bd_s, hst_hst, if_pos rfl, hp_of (cs := [4]) (k := 2) hst_eq rfl (by omega) (by simp), wt_bd_s, hst_hst]
    rfl
  unfold eX6_init eJ4_init_3 eJ3_init_3
  rw [wt_ck_t (fun us => by rw [z us, z _]), z, wt_bd_s, wt_bd_s, hp_of (cs := [4]) (k := 6) hst_eq rfl (by omega) (by simp), wt_bd_s, hst_hst, hp_of (cs := [4]) (k := 7) hst_eq rfl (by omega) (by simp), wt_bd_s, hst_hst, wp_some]
  exact ⟨hst_eq, Fr.st h (by simp), rfl⟩
/-- a fault is made: its kind k, its place out of the reader's field j -/
theorem cfault {τ : HP} {o tp n p k pl j : Nat} {fr : Int32} {Q : HP → Prop} (h : RdR τ o tp n p fr) (hf : Wf τ) (hj : [Value.ref tp, .int (nI n), .int (nI p), .int fr][j]? = some (.int (nI pl)))
    (hQ : ∀ t, WrR t τ.2 k pl → hcl t τ.2 = some 4 → Fr [] τ t → RdR t o tp n p fr → Q t) :
    wp (wt_bd (hgI (hnew τ (.inr (4, [.null, .null, .null, .null, .null, .int 0, .int 0, .int 0]))) o [3] j) fun f => eX6_init (hnew τ (.inr (4, [.null, .null, .null, .null, .null, .int 0, .int 0, .int 0]))) τ.2 (nI k) f) Q := by
  have ho := hf o _ h
  have b2 : RdR (hnew τ (.inr (4, [.null, .null, .null, .null, .null, .int 0, .int 0, .int 0]))) o tp n p fr := (hnew_ne (by omega)).trans h
  rw [hgI_of (cs := [3]) (k := j) b2 rfl hj, wt_bd_s]
  refine wp_mono (cwrong0 (k := nI k) (pl := nI pl) hnew_eq) fun t ⟨t1, t2, t3⟩ => ?_
  have hF : Fr [] τ t := Fr.new.then t2 fun q hq => Or.inr (by
    have : q = τ.2 := by simpa using hq
    omega)
  exact hQ t ⟨_, t1, rfl, rfl⟩ (hcl_of t1) hF (hF.at hf h (by simp))
theorem cwrong {τ : HP} {o tp n p : Nat} {fr : Int32} (h : RdR τ o tp n p fr) (hf : Wf τ) : wp (eX5_wrong τ o) (fun r => r.1 = τ.2 ∧ WrR r.2 τ.2 1 p ∧ hcl r.2 τ.2 = some 4 ∧ Fr [] τ r.2 ∧ RdR r.2 o tp n p fr) := by
  unfold eX5_wrong
  rw [wp_lt]
  have e : (wt_bd (hgI (hnew τ (.inr (4, [.null, .null, .null, .null, .null, .int 0, .int 0, .int 0]))) o [3] 2) fun f2 => wt_bd (eX6_init (hnew τ (.inr (4, [.null, .null, .null, .null, .null, .int 0, .int 0, .int 0]))) τ.2 (1 : Int32) f2) fun w4 => some (τ.2, w4)) = wt_bd (wt_bd (hgI (hnew τ (.inr (4, [.null, .null, .null, .null, .null, .int 0, .int 0, .int 0]))) o [3] 2) fun f => eX6_init (hnew τ (.inr (4, [.null, .null, .null, .null, .null, .int 0, .int 0, .int 0]))) τ.2 (nI 1) f) fun w4 => some (τ.2, w4) := by
    cases hgI (hnew τ (.inr (4, [.null, .null, .null, .null, .null, .int 0, .int 0, .int 0]))) o [3] 2 <;> rfl
  rw [e, wp_bd]
  refine cfault h hf (k := 1) (j := 2) (pl := p) rfl fun t t1 t2 t3 t4 => ?_
  rw [wp_some]
  exact ⟨rfl, t1, t2, t3, t4⟩
/-- the outcome of a read: a value and the new place, or a fault -/
def CQ (τ : HP) (o tp n : Nat) (r : PR (Nat × Nat)) (out : (Int32 × HP) ⊕ (Nat × Nat × HP)) : Prop := match r, out with
  | .inr vp, .inl w => w.1 = nI vp.1 ∧ vp.2 ≤ n ∧ (∃ fr, RdR w.2 o tp n vp.2 fr) ∧ Fr [o] τ w.2
  | .inl e, .inr x => x.1 = 4 ∧ WrR x.2.2 x.2.1 e.1 e.2 ∧ Fr [o] τ x.2.2
  | _, _ => False
theorem min_t {a d : Nat} : (if 10 * (if a ≤ 1000 then a else 1000) + d ≤ 1000 then 10 * (if a ≤ 1000 then a else 1000) + d else 1000) = (if 10 * a + d ≤ 1000 then 10 * a + d else 1000) := by
  by_cases c : a ≤ 1000
  · rw [if_pos c]
  · rw [if_neg c, if_neg (by omega), if_neg (by omega)]
/-- the number, and where it began (for the tests that come behind it) -/
theorem cnumber' {τ : HP} {o tp n p lo hi : Nat} {fr : Int32} {tx : Nat → Nat} (hf : Wf τ) (h : RdR τ o tp n p fr) (ht : TxR τ tp tx) (hn : n ≤ 400) (hp : p ≤ n) (hlo : lo ≤ 999) (hhi : hi ≤ 999) :
    wp (eX5_number τ o (nI lo) (nI hi)) (fun out => match pNum tx n lo hi none p, out with
      | .inr vp, .inl w => w.1 = nI vp.1 ∧ vp.2 ≤ n ∧ RdR w.2 o tp n vp.2 (nI (skB tx n p)) ∧ Fr [o] τ w.2
      | .inl e, .inr x => x.1 = 4 ∧ WrR x.2.2 x.2.1 e.1 e.2 ∧ Fr [o] τ x.2.2
      | _, _ => False) := by
  obtain ⟨hq1, hq2⟩ := skB_le (tx := tx) hp
  have ho := hf o _ h
  unfold eX5_number pNum
  rw [wt_ck_t (hcl_of h)]
  refine wp_ap (csign h ht hn hp) fun out ⟨a1, a2, a3, a4⟩ => ?_
  obtain ⟨c0, t0⟩ := out
  dsimp only at a1 a2 a3 a4 ⊢
  subst a1
  have hf0 := a3.1 hf
  obtain ⟨f, t1, t2⟩ := ht
  have hv : ∀ k, k < 400 → ((400, f) : Nat × (Nat → Int32)).2 k = sbI (tx k) := fun k hk => (t2 k hk).1
  have hne := ne_rt h t1
  have t3 := a3.at hf t1 (by simpa using Ne.symm hne)
  generalize skB tx n p = q at hq1 hq2 a2
  have hcv : (¬ cv tx n q < 48 ∧ cv tx n q ≤ 57) ↔ isD tx n q = true := by
    unfold cv
    by_cases c : q < n
    · have hb := (t2 q (by omega)).2
      have st := (sb_t (tx q) hb).2.2.1
      rw [if_pos c]
      constructor
      · intro z
        exact decide_eq_true ⟨c, st.mp ⟨z.1, by rw [i_lt]; have := z.2; rw [i_le] at this; omega⟩⟩
      · intro z
        have := st.mpr (of_decide_eq_true z).2
        exact ⟨this.1, by rw [i_le]; have q2 := this.2; rw [i_lt] at q2; omega⟩
    · rw [if_neg c]
      constructor
      · intro z; exact absurd (show (0 : Int32) < 48 by decide) z.1
      · intro z; have := isD_lt _ z; omega
  have notD : wp (wt_bd (some (Sum.inl () : Unit ⊕ ((Int32 × HP) ⊕ (Nat × Nat × HP)))) fun w4 => wt_rs w4 (fun w4 => wt_ck (hcl t0 o = some 3) <| wt_bd (eX5_wrong t0 o) fun w70 => wt_ck (hcl w70.2 w70.1 = some 4) <| some (.inr (4, w70.1, w70.2))) (fun z_ => some z_)) (fun out : (Int32 × HP) ⊕ (Nat × Nat × HP) => match (Sum.inl (1, q) : PR (Nat × Nat)), out with
      | .inr vp, .inl w => w.1 = nI vp.1 ∧ vp.2 ≤ n ∧ RdR w.2 o tp n vp.2 (nI q) ∧ Fr [o] τ w.2
      | .inl e, .inr x => x.1 = 4 ∧ WrR x.2.2 x.2.1 e.1 e.2 ∧ Fr [o] τ x.2.2
      | _, _ => False) := by
    rw [wt_bd_s, rs_l, wt_ck_t (hcl_of a2)]
    refine wp_ap (cwrong a2 hf0) fun r ⟨r1, r2, r3, r4, r5⟩ => ?_
    rw [r1, wt_ck_t r3, wp_some]
    exact ⟨rfl, r2, a3.then r4 (fun z hz => by simp at hz)⟩
  by_cases c1 : cv tx n q < 48
  · rw [if_pos c1, if_neg (fun z => (hcv.mpr z).1 c1)]
    exact notD
  · rw [if_neg c1]
    by_cases c2 : cv tx n q ≤ 57
    · have hd := hcv.mp ⟨c1, c2⟩
      rw [if_pos c2, if_pos hd, hgI_of (cs := [3]) (k := 2) a2 rfl rfl, wt_bd_s, hp_of (cs := [3]) (k := 3) a2 rfl (by omega) (by simp), wt_bd_s]
      have b1 : RdR (hst t0 o (.inr (3, [Value.ref tp, .int (nI n), .int (nI q), .int fr].set 3 (.int (nI q))))) o tp n q (nI q) := hst_eq
      have b2 : (hst t0 o (.inr (3, [Value.ref tp, .int (nI n), .int (nI q), .int fr].set 3 (.int (nI q))))).1 tp = some (.inl (1, 400, .inl f)) := (hst_ne (Ne.symm hne)).trans t3
      have b3 : Fr [o] τ (hst t0 o (.inr (3, [Value.ref tp, .int (nI n), .int (nI q), .int fr].set 3 (.int (nI q))))) := a3.trans (fr_o a2)
      generalize hst t0 o (.inr (3, [Value.ref tp, .int (nI n), .int (nI q), .int fr].set 3 (.int (nI q)))) = t4 at b1 b2 b3
      obtain ⟨hd1, hd2⟩ := skD_le (tx := tx) hq2
      have key : wp (wt_whC (bX5_number_1 o) ((0 : Int32), t4)) (fun v => v.1 = nI (if nval tx n q ≤ 1000 then nval tx n q else 1000) ∧ RdR v.2 o tp n (skD tx n q) (nI q) ∧ Fr [o] τ v.2) := by
        refine wp_loop (fun m v => ∃ k t, m = n - (q + k) ∧ q + k ≤ skD tx n q ∧ v = (nI (if nv tx q k ≤ 1000 then nv tx q k else 1000), t) ∧ RdR t o tp n (q + k) (nI q) ∧ t.1 tp = some (.inl (1, 400, .inl f)) ∧ Fr [o] τ t) ?_ (n - q) _ ⟨0, t4, rfl, by omega, rfl, b1, b2, b3⟩
        rintro m v ⟨k, t, rfl, hk, rfl, d1, d2, d3⟩
        unfold bX5_number_1
        dsimp only
        rw [hgI_of (cs := [3]) (k := 2) d1 rfl rfl, wt_bd_s, hgI_of (cs := [3]) (k := 1) d1 rfl rfl, wt_bd_s, wp_ite]
        rcases Nat.lt_or_ge (q + k) (skD tx n q) with hlt | hge
        · have hD : isD tx n (q + k) = true := eo_in (isD tx n) (n - q) q (q + k) (by omega) hlt
          have hD2 := of_decide_eq_true hD
          have hb := (t2 (q + k) (by omega)).2
          have st := sb_t (tx (q + k)) hb
          have sd := st.2.2.1.mpr hD2.2
          have se := st.2.2.2.2 (by omega)
          have hcap : (if nv tx q k ≤ 1000 then nv tx q k else 1000) ≤ 1000 := by split <;> omega
          have e : wt_min ((10 : Int32) * nI (if nv tx q k ≤ 1000 then nv tx q k else 1000) + nI (tx (q + k)) - 48) (1000 : Int32) = nI (if nv tx q (k + 1) ≤ 1000 then nv tx q (k + 1) else 1000) := by
            have e3 := min_t (a := nv tx q k) (d := tx (q + k) - 48)
            show _ = nI (if 10 * nv tx q k + (tx (q + k) - 48) ≤ 1000 then 10 * nv tx q k + (tx (q + k) - 48) else 1000)
            rw [← e3, il_mul, nI_add, il_sub (by omega), show 10 * (if nv tx q k ≤ 1000 then nv tx q k else 1000) + tx (q + k) - 48 = 10 * (if nv tx q k ≤ 1000 then nv tx q k else 1000) + (tx (q + k) - 48) from by omega]
            have hz : 10 * (if nv tx q k ≤ 1000 then nv tx q k else 1000) + (tx (q + k) - 48) < 2 ^ 31 := by omega
            generalize 10 * (if nv tx q k ≤ 1000 then nv tx q k else 1000) + (tx (q + k) - 48) = z at hz
            unfold wt_min
            rw [show (1000 : Int32) = nI 1000 from rfl]
            by_cases c : z ≤ 1000
            · rw [if_pos c]
              by_cases c2 : nI 1000 < nI z
              · rw [nI_ltI (by omega) hz] at c2; omega
              · rw [if_neg c2]
            · rw [if_neg c, if_pos (nI_lt (by omega) hz)]
          rw [if_neg (by rw [nI_leI (by omega) (by omega)]; omega), hgA_of (cs := [3]) (k := 0) d1 rfl rfl, wt_bd_s, wt_bd_s, haI_of d2, wt_bd_s, wt_ck_t (by rw [vp_nI (by omega)]; show _ < 400; omega), nI_clamp (by omega), wp_ite, hv (q + k) (by omega), if_neg sd.1, wt_bd_s, wt_bd_s, haI_of d2, wt_bd_s, wt_ck_t (by rw [vp_nI (by omega)]; show _ < 400; omega), nI_clamp (by omega), wp_ite, hv (q + k) (by omega), if_neg sd.2, wt_bd_s, wt_bd_s, haI_of d2, wt_bd_s, wt_ck_t (by rw [vp_nI (by omega)]; show _ < 400; omega), nI_clamp (by omega), wp_lt, hv (q + k) (by omega), se, e, wt_bd_s, hp_of (cs := [3]) (k := 2) d1 rfl (by omega) (by simp), wt_bd_s, wp_some, lpo_l, nI_1]
          exact ⟨n - (q + (k + 1)), by omega, k + 1, _, rfl, by omega, rfl, hst_eq, (hst_ne (Ne.symm hne)).trans d2, d3.trans (fr_o d1)⟩
        · have e2 : q + k = skD tx n q := by omega
          have hD : ¬ isD tx n (q + k) = true := by
            rw [e2]
            exact eo_stop isD_lt _ _ (by omega)
          have fin : lpo (fun w' => ∃ m_1, m_1 < n - (q + k) ∧ ∃ k t, m_1 = n - (q + k) ∧ q + k ≤ skD tx n q ∧ w' = (nI (if nv tx q k ≤ 1000 then nv tx q k else 1000), t) ∧ RdR t o tp n (q + k) (nI q) ∧ t.1 tp = some (.inl (1, 400, .inl f)) ∧ Fr [o] τ t) (fun v : Int32 × HP => v.1 = nI (if nval tx n q ≤ 1000 then nval tx n q else 1000) ∧ RdR v.2 o tp n (skD tx n q) (nI q) ∧ Fr [o] τ v.2) (Sum.inr (nI (if nv tx q k ≤ 1000 then nv tx q k else 1000), t)) := by
            rw [lpo_r]
            refine ⟨?_, by rw [← e2]; exact d1, d3⟩
            unfold nval
            rw [show skD tx n q - q = k from by omega]
          by_cases c3 : n ≤ q + k
          · rw [if_pos (by rw [nI_leI (by omega) (by omega)]; exact c3), wp_some]
            exact fin
          · have hb := (t2 (q + k) (by omega)).2
            have st := (sb_t (tx (q + k)) hb).2.2.1
            rw [if_neg (by rw [nI_leI (by omega) (by omega)]; exact c3), hgA_of (cs := [3]) (k := 0) d1 rfl rfl, wt_bd_s, wt_bd_s, haI_of d2, wt_bd_s, wt_ck_t (by rw [vp_nI (by omega)]; show _ < 400; omega), nI_clamp (by omega), wp_ite, hv (q + k) (by omega)]
            by_cases c4 : sbI (tx (q + k)) < 48
            · rw [if_pos c4, wp_some]
              exact fin
            · rw [if_neg c4, wt_bd_s, wt_bd_s, haI_of d2, wt_bd_s, wt_ck_t (by rw [vp_nI (by omega)]; show _ < 400; omega), nI_clamp (by omega), wp_ite, hv (q + k) (by omega), if_pos (Classical.byContradiction fun z => hD (decide_eq_true ⟨by omega, st.mp ⟨c4, z⟩⟩)), wp_some]
              exact fin
      rw [wp_bd, wp_bd]
      refine wp_mono key fun v ⟨v1, v2, v3⟩ => ?_
      obtain ⟨vv, t5⟩ := v
      dsimp only at v1 v2 v3 ⊢
      subst v1
      have hf5 := v3.1 hf
      generalize nval tx n q = V
      have hcap : (if V ≤ 1000 then V else 1000) ≤ 1000 := by split <;> omega
      have bad : wp (wt_bd (some (Sum.inl () : Unit ⊕ (Unit ⊕ ((Int32 × HP) ⊕ (Nat × Nat × HP))))) fun w57 => wt_rs w57 (fun w57 => wt_lt (hnew t5 (.inr (4, [.null, .null, .null, .null, .null, .int 0, .int 0, .int 0]))) fun τ63 => wt_bd (hgI τ63 o [3] 3) fun f64 => wt_bd (eX6_init τ63 t5.2 (2 : Int32) f64) fun w66 => wt_ck (hcl w66 t5.2 = some 4) <| some (.inr (.inr (4, t5.2, w66)))) (fun z_ => some z_)) (fun w4 => wp (wt_rs w4 (fun w4 => wt_ck (hcl t0 o = some 3) <| wt_bd (eX5_wrong t0 o) fun w70 => wt_ck (hcl w70.2 w70.1 = some 4) <| some (.inr (4, w70.1, w70.2))) (fun z_ => some z_)) (fun out : (Int32 × HP) ⊕ (Nat × Nat × HP) => match (Sum.inl (2, q) : PR (Nat × Nat)), out with
      | .inr vp, .inl w => w.1 = nI vp.1 ∧ vp.2 ≤ n ∧ RdR w.2 o tp n vp.2 (nI q) ∧ Fr [o] τ w.2
      | .inl e, .inr x => x.1 = 4 ∧ WrR x.2.2 x.2.1 e.1 e.2 ∧ Fr [o] τ x.2.2
      | _, _ => False)) := by
        rw [wt_bd_s, rs_l, wp_lt]
        have e : (wt_bd (hgI (hnew t5 (.inr (4, [.null, .null, .null, .null, .null, .int 0, .int 0, .int 0]))) o [3] 3) fun f64 => wt_bd (eX6_init (hnew t5 (.inr (4, [.null, .null, .null, .null, .null, .int 0, .int 0, .int 0]))) t5.2 (2 : Int32) f64) fun w66 => wt_ck (hcl w66 t5.2 = some 4) <| some (.inr (.inr (4, t5.2, w66)) : Unit ⊕ ((Int32 × HP) ⊕ (Nat × Nat × HP)))) = wt_bd (wt_bd (hgI (hnew t5 (.inr (4, [.null, .null, .null, .null, .null, .int 0, .int 0, .int 0]))) o [3] 3) fun f => eX6_init (hnew t5 (.inr (4, [.null, .null, .null, .null, .null, .int 0, .int 0, .int 0]))) t5.2 (nI 2) f) fun w66 => wt_ck (hcl w66 t5.2 = some 4) <| some (.inr (.inr (4, t5.2, w66))) := by
          cases hgI (hnew t5 (.inr (4, [.null, .null, .null, .null, .null, .int 0, .int 0, .int 0]))) o [3] 3 <;> rfl
        rw [e, wp_bd]
        refine cfault v2 hf5 (k := 2) (j := 3) (pl := q) rfl fun t k1 k2 k3 k4 => ?_
        rw [wt_ck_t k2, wp_some, rs_r, wp_some]
        exact ⟨rfl, k1, v3.then k3 (fun z hz => by simp at hz)⟩
      by_cases c5 : V < lo ∨ hi < V
      · rw [if_pos (show V < lo ∨ hi < V ∨ none = some V from c5.elim Or.inl fun z => Or.inr (Or.inl z))]
        by_cases c6 : V < lo
        · rw [if_pos (by rw [nI_ltI (by omega) (by omega)]; split <;> omega)]
          exact bad
        · rw [if_neg (by rw [nI_ltI (by omega) (by omega)]; split <;> omega), if_neg (by rw [nI_leI (by omega) (by omega)]; split <;> omega)]
          exact bad
      · have eV : (if V ≤ 1000 then V else 1000) = V := if_pos (by omega)
        rw [if_neg (show ¬ (V < lo ∨ hi < V ∨ none = some V) by
          rintro (z | z | z)
          · omega
          · omega
          · cases z), eV, if_neg (by rw [nI_ltI (by omega) (by omega)]; omega), if_pos (by rw [nI_leI (by omega) (by omega)]; omega), wt_bd_s, rs_r, wp_some, rs_r, wp_some]
        exact ⟨rfl, hd2, v2, v3⟩
    · rw [if_neg c2, if_neg (fun z => c2 (hcv.mpr z).2)]
      exact notD
/-! THE PLAIN LAW, 17: the component's reader: which word; other numbers; signs that must come -/
set_option maxRecDepth 100000
theorem wl_get {tx : Nat → Nat} {q : Nat} : ∀ k j, j < k → (wl tx q k)[j]? = some (tx (q + (k - 1 - j)) - 96) := by
  intro k
  induction k with
  | zero => intro j h; omega
  | succ k ih =>
    intro j h
    cases j with
    | zero =>
      show some (tx (q + k) - 96) = _
      rw [show k + 1 - 1 - 0 = k from by omega]
    | succ j =>
      show (wl tx q k)[j]? = _
      rw [ih j (by omega), show k + 1 - 1 - (j + 1) = k - 1 - j from by omega]
/-- the letters' numbers, the last first -/
def rvW (L : List Nat) : List Nat := (L.map fun c => c - 96).reverse
theorem rvW_get {L : List Nat} {j : Nat} (h : j < L.length) : (rvW L)[j]? = some (L.getD (L.length - 1 - j) 0 - 96) := by
  unfold rvW
  rw [List.getElem?_reverse (by rw [List.length_map]; exact h), List.getElem?_map, List.length_map, List.getD_eq_getElem?_getD, List.getElem?_eq_getElem (by omega)]
  rfl
theorem rvW_len {L : List Nat} : (rvW L).length = L.length := by
  unfold rvW
  rw [List.length_reverse, List.length_map]
theorem same_wd {tx : Nat → Nat} {n q : Nat} {g : Nat → Int32} {L : List Nat} (ht : ∀ k, k < n → tx k < 256) (hg : ∀ i, i < wk tx n q → g i = nI (tx (q + i))) (hL : ∀ c, c ∈ L → 97 ≤ c ∧ c ≤ 122) (h6 : L.length ≤ 6) : Same g (wk tx n q) L ↔ wd tx n q = rvW L := by
  have hlet : ∀ i, i < wlen tx n q → q + i < n ∧ 97 ≤ tx (q + i) ∧ tx (q + i) ≤ 122 := fun i hi => by
    have h1 := eo_in (isL tx n) (n - q) q (q + i) (by omega) (by unfold wlen skL at hi; omega)
    exact of_decide_eq_true h1
  have hget : ∀ i, i < L.length → ∃ c, L[i]? = some c ∧ 97 ≤ c ∧ c ≤ 122 ∧ L.getD i 0 = c := fun i hi => by
    refine ⟨L[i], List.getElem?_eq_getElem hi, (hL _ (List.getElem_mem hi)).1, (hL _ (List.getElem_mem hi)).2, ?_⟩
    rw [List.getD_eq_getElem?_getD, List.getElem?_eq_getElem hi]
    rfl
  constructor
  · rintro ⟨h1, h2⟩
    have e : wk tx n q = wlen tx n q := by
      unfold wk at h1 ⊢
      split
      · rfl
      · rename_i c; rw [if_neg c] at h1; omega
    refine List.ext_getElem? fun j => ?_
    unfold wd
    rcases Nat.lt_or_ge j L.length with c | c
    · rw [wl_get _ _ (by omega), rvW_get c]
      obtain ⟨x, x1, x2, x3, x4⟩ := hget (L.length - 1 - j) (by omega)
      rw [x4]
      have e1 := h2 _ _ x1
      have e2 := hg (L.length - 1 - j) (by omega)
      rw [e1] at e2
      have hl := hlet (L.length - 1 - j) (by omega)
      have e3 := (nI_eq (by omega) (by omega)).mp e2
      rw [show wlen tx n q - 1 - j = L.length - 1 - j from by omega, ← e3]
    · rw [List.getElem?_eq_none (by rw [wl_len]; omega), List.getElem?_eq_none (by rw [rvW_len]; omega)]
  · intro h
    have hlen : wlen tx n q = L.length := by
      have := congrArg List.length h
      unfold wd at this
      rw [wl_len, rvW_len] at this
      exact this
    have e : wk tx n q = wlen tx n q := by
      unfold wk
      rw [if_pos (by omega)]
    refine ⟨by omega, fun i c hc => ?_⟩
    have hi : i < L.length := by
      rcases Nat.lt_or_ge i L.length with z | z
      · exact z
      · rw [List.getElem?_eq_none z] at hc; cases hc
    obtain ⟨x, x1, x2, x3, x4⟩ := hget i hi
    rw [x1] at hc
    cases hc
    have h3 := congrArg (fun l => l[L.length - 1 - i]?) h
    unfold wd at h3
    rw [wl_get _ _ (by omega), rvW_get (by omega), show wlen tx n q - 1 - (L.length - 1 - i) = i from by omega, show L.length - 1 - (L.length - 1 - i) = i from by omega, x4] at h3
    have h4 : tx (q + i) - 96 = c - 96 := by
      injection h3
    have hl := hlet i (by omega)
    rw [hg i (by omega), show tx (q + i) = c from by omega]
/-- a switch over words: (hash, constant, number) -/
noncomputable def sw (τ : HP) (s : Nat) (h : Int32) : List (Int32 × Nat × Int32) → Option Int32
  | [] => some (-1)
  | e :: r => if h = e.1 then (wt_ck (hcl τ s = some 15) <| wt_bd (eJ9_equals τ s e.2.1) fun w => if w = 0 then (some (-1 : Int32)) else (some e.2.2)) else sw τ s h r
theorem sw_hit {τ : HP} {s a k : Nat} {g : Nat → Int32} {h z : Int32} {c : Int32} {l : Nat} {i : Int32} {L : List Nat} {r : List (Int32 × Nat × Int32)} (hS : SgR τ s a k g h z) (hk : k < 2 ^ 31) (hL : LtR τ l L) (hl : L.length < 2 ^ 31) (hs : Same g k L) (hc : jh g k = c) : sw τ s (jh g k) ((c, l, i) :: r) = some i := by
  obtain ⟨w, w1, w2, w3⟩ := sg_eq hS hL hk hl
  unfold sw
  rw [if_pos hc, wt_ck_t (hcl_of hS.1), w1, wt_bd_s, w2 hs, if_neg (by decide)]
theorem sw_miss {τ : HP} {s a k : Nat} {g : Nat → Int32} {h z : Int32} {c : Int32} {l : Nat} {i : Int32} {L : List Nat} {r : List (Int32 × Nat × Int32)} (hS : SgR τ s a k g h z) (hk : k < 2 ^ 31) (hL : LtR τ l L) (hl : L.length < 2 ^ 31) (hs : ¬ Same g k L) {x : Int32} (hr : sw τ s (jh g k) r = some x) (hx : jh g k = c → x = -1) : sw τ s (jh g k) ((c, l, i) :: r) = some x := by
  obtain ⟨w, w1, w2, w3⟩ := sg_eq hS hL hk hl
  unfold sw
  by_cases e : jh g k = c
  · rw [if_pos e, wt_ck_t (hcl_of hS.1), w1, wt_bd_s, w3 hs, if_pos rfl, hx e]
  · rw [if_neg e]
    exact hr
theorem sw_skip {τ : HP} {s : Nat} {h c : Int32} {l : Nat} {i : Int32} {r : List (Int32 × Nat × Int32)} (hne : ¬ h = c) : sw τ s h ((c, l, i) :: r) = sw τ s h r := by
  show (if h = c then _ else _) = _
  rw [if_neg hne]
/-- a row of a switch is right: its constant is there, its hash is that of its signs -/
def SwOk (τ : HP) (e : Int32 × Nat × Int32) (L : List Nat) : Prop := LtR τ e.2.1 L ∧ (∀ c, c ∈ L → 97 ≤ c ∧ c ≤ 122) ∧ L.length ≤ 6 ∧ jh (fun i => nI (L.getD i 0)) L.length = e.1
theorem SwOk.hash {τ : HP} {e : Int32 × Nat × Int32} {L : List Nat} {g : Nat → Int32} {k : Nat} (h : SwOk τ e L) (hs : Same g k L) : jh g k = e.1 := (jh_same L k hs (fun c hc => by have := (h.2.1 c hc).2; omega)).trans h.2.2.2
/-- the switch by all its rows: the number of the row whose signs they are, or -1 -/
theorem sw_all {τ : HP} {s a k : Nat} {g : Nat → Int32} {h z : Int32} (hS : SgR τ s a k g h z) (hk : k < 2 ^ 31) : ∀ (R : List ((Int32 × Nat × Int32) × List Nat)), (∀ e, e ∈ R → SwOk τ e.1 e.2) → (R.map fun e => e.1.1).Nodup →
    (∀ e, e ∈ R → Same g k e.2 → sw τ s (jh g k) (R.map Prod.fst) = some e.1.2.2) ∧ ((∀ e, e ∈ R → ¬ Same g k e.2) → sw τ s (jh g k) (R.map Prod.fst) = some (-1)) := by
  intro R
  induction R with
  | nil => intro _ _; exact ⟨fun e h => by (cases h), fun _ => rfl⟩
  | cons e R ih =>
    intro hR hN
    have hN2 := List.nodup_cons.mp hN
    obtain ⟨i1, i2⟩ := ih (fun x hx => hR x (List.mem_cons_of_mem _ hx)) hN2.2
    have h0 := hR e List.mem_cons_self
    obtain ⟨⟨c, l, i⟩, L⟩ := e
    have hsk : ∀ x, x ∈ R → Same g k x.2 → ¬ jh g k = c := fun x hx hs q => by
      have := (hR x (List.mem_cons_of_mem _ hx)).hash hs
      rw [q] at this
      exact hN2.1 (List.mem_map.mpr ⟨x, hx, this.symm⟩)
    refine ⟨fun x hx hs => ?_, fun hno => ?_⟩
    · rcases List.mem_cons.mp hx with q | q
      · subst q
        exact sw_hit hS hk h0.1 (by have := h0.2.2.1; omega) hs (h0.hash hs)
      · show sw τ s (jh g k) ((c, l, i) :: R.map Prod.fst) = _
        rw [sw_skip (hsk x q hs)]
        exact i1 x q hs
    · exact sw_miss hS hk h0.1 (by have := h0.2.2.1; omega) (hno _ List.mem_cons_self) (i2 fun x hx => hno x (List.mem_cons_of_mem _ hx)) fun _ => rfl
/-- the String constants of the reader -/
def Lits (τ : HP) (lit : Nat → Nat) : Prop := LtR τ (lit 88) [115, 104, 101, 100] ∧ LtR τ (lit 90) [104, 111, 108, 100] ∧ LtR τ (lit 92) [119, 97, 115, 104] ∧ LtR τ (lit 94) [112, 97, 115, 115] ∧ LtR τ (lit 96) [116, 97, 107, 101] ∧ LtR τ (lit 98) [97, 108, 105, 107, 101] ∧ LtR τ (lit 100) [99, 111, 109, 109, 111, 110] ∧ LtR τ (lit 153) [119, 101, 97, 114] ∧ LtR τ (lit 155) [98, 97, 114, 101] ∧ LtR τ (lit 157) [116, 111, 117, 99, 104] ∧ LtR τ (lit 159) [115, 104, 97, 107, 101] ∧ LtR τ (lit 132) [97, 116]
/-- a cell that the component never writes -/
def Cst (τ : HP) (lit : Nat → Nat) (B : Nat) : Prop := ∀ k, k ∈ [88, 90, 92, 94, 96, 98, 100, 153, 155, 157, 159, 132] → lit k < B ∧ ∀ la rest, τ.1 (lit k) = some (.inr (16, .ref la :: rest)) → la < B
theorem LtR.at {W : List Nat} {τ τ' : HP} {a : Nat} {L : List Nat} (h : LtR τ a L) (hF : Fr W τ τ') (hf : Wf τ) (h1 : ∀ w, w ∈ W → ∀ t n x, τ.1 w = some (.inl (t, n, x)) → t ≠ 5) (h2 : ∀ w, w ∈ W → ∀ c fs, τ.1 w = some (.inr (c, fs)) → c ≠ 16) : LtR τ' a L := by
  obtain ⟨la, rest, lg, l1, l2, l3⟩ := h
  exact ⟨la, rest, lg, hF.at hf l1 (fun z => h2 _ z _ _ l1 rfl), hF.at hf l2 (fun z => h1 _ z _ _ _ l2 rfl), l3⟩
/-- W's cells are none of the constants' -/
def NoL (τ : HP) (W : List Nat) : Prop := (∀ w, w ∈ W → ∀ t n x, τ.1 w = some (.inl (t, n, x)) → t ≠ 5) ∧ (∀ w, w ∈ W → ∀ c fs, τ.1 w = some (.inr (c, fs)) → c ≠ 16)
theorem Lits.keep {W : List Nat} {τ τ' : HP} {lit : Nat → Nat} (h : Lits τ lit) (hF : Fr W τ τ') (hf : Wf τ) (hn : NoL τ W) : Lits τ' lit := by
  obtain ⟨h1, h2, h3, h4, h5, h6, h7, h8, h9, h10, h11, h12⟩ := h
  exact ⟨h1.at hF hf hn.1 hn.2, h2.at hF hf hn.1 hn.2, h3.at hF hf hn.1 hn.2, h4.at hF hf hn.1 hn.2, h5.at hF hf hn.1 hn.2, h6.at hF hf hn.1 hn.2, h7.at hF hf hn.1 hn.2, h8.at hF hf hn.1 hn.2, h9.at hF hf hn.1 hn.2, h10.at hF hf hn.1 hn.2, h11.at hF hf hn.1 hn.2, h12.at hF hf hn.1 hn.2⟩
theorem NoL.nil {τ : HP} : NoL τ [] := ⟨fun w hw => by (cases hw), fun w hw => by (cases hw)⟩
theorem NoL.obj {τ : HP} {o c : Nat} {fs : List Value} {W : List Nat} (h : τ.1 o = some (.inr (c, fs))) (hc : c ≠ 16) (hn : NoL τ W) : NoL τ (o :: W) := by
  refine ⟨fun w hw t n x hx => ?_, fun w hw c' fs' hx => ?_⟩
  · rcases List.mem_cons.mp hw with e | e
    · rw [e, h] at hx; cases hx
    · exact hn.1 w e t n x hx
  · rcases List.mem_cons.mp hw with e | e
    · rw [e, h] at hx; cases hx; exact hc
    · exact hn.2 w e c' fs' hx
theorem NoL.arr {τ : HP} {o t n : Nat} {x : (Nat → Int32) ⊕ (Nat → Int64) ⊕ (Nat → UInt32) ⊕ (Nat → UInt64) ⊕ (Nat → Option Nat)} {W : List Nat} (h : τ.1 o = some (.inl (t, n, x))) (hc : t ≠ 5) (hn : NoL τ W) : NoL τ (o :: W) := by
  refine ⟨fun w hw t' n' x' hx => ?_, fun w hw c' fs' hx => ?_⟩
  · rcases List.mem_cons.mp hw with e | e
    · rw [e, h] at hx; cases hx; exact hc
    · exact hn.1 w e t' n' x' hx
  · rcases List.mem_cons.mp hw with e | e
    · rw [e, h] at hx; cases hx
    · exact hn.2 w e c' fs' hx
theorem fr_nil {W : List Nat} {x y z : HP} (h : Fr W x y) (h' : Fr [] y z) : Fr W x z := h.then h' fun q hq => by simp at hq
theorem cnumber {τ : HP} {o tp n p lo hi : Nat} {fr : Int32} {tx : Nat → Nat} (hf : Wf τ) (h : RdR τ o tp n p fr) (ht : TxR τ tp tx) (hn : n ≤ 400) (hp : p ≤ n) (hlo : lo ≤ 999) (hhi : hi ≤ 999) : wp (eX5_number τ o (nI lo) (nI hi)) (CQ τ o tp n (pNum tx n lo hi none p)) := by
  refine wp_mono (cnumber' hf h ht hn hp hlo hhi) fun out hq => ?_
  revert hq
  cases pNum tx n lo hi none p with
  | inl e =>
    cases out with
    | inl w => intro z; exact z
    | inr x => intro z; exact z
  | inr vp =>
    cases out with
    | inl w => rintro ⟨a, b, c, d⟩; exact ⟨a, b, ⟨_, c⟩, d⟩
    | inr x => intro z; exact z
theorem pNum_ne {tx : Nat → Nat} {n lo hi s p : Nat} : pNum tx n lo hi (some s) p = pB (pNum tx n lo hi none p) fun vp => if vp.1 = s then .inl (2, skB tx n p) else .inr vp := by
  unfold pNum
  by_cases c : isD tx n (skB tx n p) = true
  · rw [if_pos c, if_pos c]
    by_cases c2 : nval tx n (skB tx n p) < lo ∨ hi < nval tx n (skB tx n p)
    · rw [if_pos (by omega), if_pos (by omega)]; rfl
    · by_cases c3 : nval tx n (skB tx n p) = s
      · rw [if_pos (Or.inr (Or.inr (by rw [c3]))), if_neg (by
          rintro (z | z | z)
          · omega
          · omega
          · cases z)]
        show _ = (if nval tx n (skB tx n p) = s then _ else _)
        rw [if_pos c3]
      · rw [if_neg (by
          rintro (z | z | z)
          · omega
          · omega
          · injection z with z; exact c3 z.symm), if_neg (by
          rintro (z | z | z)
          · omega
          · omega
          · cases z)]
        show _ = (if nval tx n (skB tx n p) = s then _ else _)
        rw [if_neg c3]
  · rw [if_neg c, if_neg c]; rfl
theorem cother {τ : HP} {o tp n p s : Nat} {fr : Int32} {tx : Nat → Nat} (hf : Wf τ) (h : RdR τ o tp n p fr) (ht : TxR τ tp tx) (hn : n ≤ 400) (hp : p ≤ n) (hs : s ≤ 999) : wp (eX5_other τ o (nI s) (10 : Int32)) (CQ τ o tp n (pNum tx n 0 9 (some s) p)) := by
  unfold eX5_other
  rw [wt_ck_t (hcl_of h), pNum_ne, show (10 : Int32) - 1 = nI 9 from by decide]
  have hpn := fun o => pNum_ok (tx := tx) (n := n) (lo := 0) (hi := 9) (ne := none) (o := o) hp
  refine wp_ap (cnumber' (lo := 0) (hi := 9) hf h ht hn hp (by omega) (by omega)) fun out hq => ?_
  revert hq hpn
  cases pNum tx n 0 9 none p with
  | inl e =>
    cases out with
    | inl w => intro _ z; exact z.elim
    | inr x =>
      intro _ z
      rw [rs_r, wp_some]
      exact z
  | inr vp =>
    cases out with
    | inr x => intro _ z; exact z.elim
    | inl w =>
      rintro hpn ⟨a, b, c, d⟩
      obtain ⟨x, t⟩ := w
      dsimp only at a b c d
      subst a
      have hv := hpn vp rfl
      have hft := d.1 hf
      rw [rs_l]
      dsimp only
      show wp (if nI vp.1 = nI s then _ else _) (CQ τ o tp n (if vp.1 = s then .inl (2, skB tx n p) else .inr vp))
      by_cases c1 : vp.1 = s
      · rw [if_pos c1, if_pos (by rw [c1]), wp_lt]
        have e : (wt_bd (hgI (hnew t (.inr (4, [.null, .null, .null, .null, .null, .int 0, .int 0, .int 0]))) o [3] 3) fun f64 => wt_bd (eX6_init (hnew t (.inr (4, [.null, .null, .null, .null, .null, .int 0, .int 0, .int 0]))) t.2 (2 : Int32) f64) fun w66 => wt_ck (hcl w66 t.2 = some 4) <| some (.inr (4, t.2, w66) : (Int32 × HP) ⊕ (Nat × Nat × HP))) = wt_bd (wt_bd (hgI (hnew t (.inr (4, [.null, .null, .null, .null, .null, .int 0, .int 0, .int 0]))) o [3] 3) fun f => eX6_init (hnew t (.inr (4, [.null, .null, .null, .null, .null, .int 0, .int 0, .int 0]))) t.2 (nI 2) f) fun w66 => wt_ck (hcl w66 t.2 = some 4) <| some (.inr (4, t.2, w66)) := by
          cases hgI (hnew t (.inr (4, [.null, .null, .null, .null, .null, .int 0, .int 0, .int 0]))) o [3] 3 <;> rfl
        rw [e, wp_bd]
        refine cfault c hft (k := 2) (j := 3) (pl := skB tx n p) rfl fun u k1 k2 k3 k4 => ?_
        rw [wt_ck_t k2, wp_some]
        exact ⟨rfl, k1, fr_nil d k3⟩
      · rw [if_neg c1, if_neg (fun z => c1 ((nI_eq (by omega) (by omega)).mp z)), wp_some]
        exact ⟨rfl, b, ⟨_, c⟩, d⟩
/-- the outcome of a sign that must come -/
def CN (τ : HP) (o tp n : Nat) (r : PR Nat) (out : HP ⊕ (Nat × Nat × HP)) : Prop := match r, out with
  | .inr p, .inl t => p ≤ n ∧ (∃ fr, RdR t o tp n p fr) ∧ Fr [o] τ t
  | .inl e, .inr x => x.1 = 4 ∧ WrR x.2.2 x.2.1 e.1 e.2 ∧ Fr [o] τ x.2.2
  | _, _ => False
theorem cneed {τ : HP} {o tp n p : Nat} {fr : Int32} {tx : Nat → Nat} (hf : Wf τ) (h : RdR τ o tp n p fr) (ht : TxR τ tp tx) (hn : n ≤ 400) (hp : p ≤ n) : wp (eX5_need τ o (59 : Int32)) (CN τ o tp n (pSign tx n p)) := by
  obtain ⟨hq1, hq2⟩ := skB_le (tx := tx) hp
  obtain ⟨f, t1, t2⟩ := ht
  unfold eX5_need pSign
  rw [wt_ck_t (hcl_of h)]
  refine wp_ap (csign h ⟨f, t1, t2⟩ hn hp) fun out ⟨a1, a2, a3, a4⟩ => ?_
  obtain ⟨c0, t0⟩ := out
  dsimp only at a1 a2 a3 a4 ⊢
  subst a1
  generalize skB tx n p = q at hq1 hq2 a2
  have hcv : (cv tx n q = 59) ↔ (q < n ∧ tx q = 59) := by
    unfold cv
    by_cases c : q < n
    · have st := (sb_t (tx q) (t2 q (by omega)).2).2.2.2.1
      rw [if_pos c, st]
      exact ⟨fun z => ⟨c, z⟩, fun z => z.2⟩
    · rw [if_neg c]
      exact ⟨fun z => absurd z (by decide), fun z => absurd z.1 c⟩
  rw [wp_ite]
  by_cases c : q < n ∧ tx q = 59
  · rw [if_pos (hcv.mpr c), if_pos c, hgI_of (cs := [3]) (k := 2) a2 rfl rfl, wt_bd_s, hp_of (cs := [3]) (k := 2) a2 rfl (by omega) (by simp), wt_bd_s, wp_some, nI_1]
    exact ⟨c.1, ⟨fr, hst_eq⟩, a3.trans (fr_o a2)⟩
  · rw [if_neg (fun z => c (hcv.mp z)), if_neg c, wt_ck_t (hcl_of a2)]
    refine wp_ap (cwrong a2 (a3.1 hf)) fun r ⟨r1, r2, r3, r4, r5⟩ => ?_
    rw [r1, wt_ck_t r3, wp_some]
    exact ⟨rfl, r2, fr_nil a3 r4⟩
