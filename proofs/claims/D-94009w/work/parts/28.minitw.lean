/-! FROM THE HEAP'S CELLS TO THE MODEL'S WORLD -/
set_option maxRecDepth 100000
def mb_a (k : Nat) : Nat := match k with
  | 7 => 1
  | 12 => 2
  | 13 => 11
  | 14 => 12
  | 15 => 13
  | 20 => 14
  | 21 => 23
  | 22 => 24
  | 23 => 25
  | 25 => 26
  | 26 => 27
  | 27 => 108
  | 32 => 130
  | 33 => 139
  | 34 => 140
  | 35 => 153
  | 36 => 178
  | 37 => 182
  | 38 => 219
  | 39 => 223
  | 40 => 234
  | 48 => 235
  | _ => 0
def mX (G : HG) (b : Nat) : MPar := ((b, fun k => b + mb_a k, fun k i => b + mb_a k + 1 + i), (G.1.1 17, G.1.2 17, G.2.1 0, G.2.1 6))
def m0_f (k : Nat) : Int32 := match k with
  | 3 => -1
  | 11 => 8
  | 41 => -1
  | 42 => -1
  | 45 => -1
  | _ => 0
def m0 : MSt := (m0_f, fun k => if k = 13 then mb_h 10 else fun _ => 0, fun _ _ _ => 0)
theorem m_n_top (j : Nat) : m_n1 (j + 50) = 0 ∧ m_n2 (j + 50) = 0 := ⟨rfl, rfl⟩
theorem m_n_lt {k : Nat} (h : 0 < m_n1 k + m_n2 k) : k < 50 := by
  rcases Nat.lt_or_ge k 50 with h1 | h1
  · exact h1
  · obtain ⟨j, rfl⟩ := Nat.exists_eq_add_of_le' h1
    rw [(m_n_top j).1, (m_n_top j).2] at h
    exact absurd h (by decide)
theorem mb_d1 : ∀ k, k < 50 → 0 < m_n1 k + m_n2 k → 0 < mb_a k ∧ mb_a k + 1 + m_n2 k ≤ 239 := by decide +kernel
theorem mb_d2 : ∀ k, k < 50 → ∀ k', k' < 50 → 0 < m_n1 k + m_n2 k → 0 < m_n1 k' + m_n2 k' → k = k' ∨ mb_a k + 1 + m_n2 k ≤ mb_a k' ∨ mb_a k' + 1 + m_n2 k' ≤ mb_a k := by decide +kernel
def mb_t1 (k : Nat) (z : MI) : Bool := decide (z.1 = mb_a k) && match z.2 with | .inl N => decide (N = m_n1 k) | .inr _ => false
def mb_t2 (k : Nat) (z : MI) : Bool := decide (z.1 = mb_a k) && match z.2 with | .inl _ => false | .inr y => decide (y.1 = m_n2 k) && decide (y.2 = m_w2 k)
theorem mb_c3 : ∀ k, k < 50 → 0 < m_n1 k → mb_offs.any (mb_t1 k) = true := by decide +kernel
theorem mb_c4 : ∀ k, k < 50 → 0 < m_n2 k → mb_offs.any (mb_t2 k) = true := by decide +kernel
theorem mb_d3 (k : Nat) (hk : k < 50) (h : 0 < m_n1 k) : (mb_a k, (.inl (m_n1 k) : Nat ⊕ (Nat × Nat))) ∈ mb_offs := by
  obtain ⟨⟨a, N | y⟩, hz, h2⟩ := List.any_eq_true.mp (mb_c3 k hk h)
  · simp only [mb_t1, Bool.and_eq_true, decide_eq_true_eq] at h2
    rw [← h2.1, ← h2.2]
    exact hz
  · simp [mb_t1] at h2
theorem mb_d4 (k : Nat) (hk : k < 50) (h : 0 < m_n2 k) : (mb_a k, (.inr (m_n2 k, m_w2 k) : Nat ⊕ (Nat × Nat))) ∈ mb_offs := by
  obtain ⟨⟨a, N | y⟩, hz, h2⟩ := List.any_eq_true.mp (mb_c4 k hk h)
  · simp [mb_t2] at h2
  · simp only [mb_t2, Bool.and_eq_true, decide_eq_true_eq] at h2
    rw [← h2.1, ← h2.2.1, ← h2.2.2]
    exact hz
theorem mb_d5 : ∀ k, k < 50 → mb_a k = 11 → k = 13 := by decide +kernel
theorem mX_J (G : HG) (b : Nat) : mJ (mX G b) b (b + 239) := by
  refine ⟨⟨Nat.le_refl _, by show b < b + 239; omega⟩, fun k hk => ?_, fun k i hi => ?_, fun k k' hk hk' e => ?_, fun k k' i hk hi e => ?_, fun k i k' i' hi hi' e => ?_⟩
  · have h1 := mb_d1 k (m_n_lt hk) hk
    show (b ≤ b + mb_a k ∧ b + mb_a k < b + 239) ∧ b + mb_a k ≠ b
    omega
  · have hk : 0 < m_n1 k + m_n2 k := by omega
    have h1 := mb_d1 k (m_n_lt hk) hk
    show (b ≤ b + mb_a k + 1 + i ∧ b + mb_a k + 1 + i < b + 239) ∧ b + mb_a k + 1 + i ≠ b
    omega
  · have e : b + mb_a k = b + mb_a k' := e
    rcases mb_d2 k (m_n_lt hk) k' (m_n_lt hk') hk hk' with h | h | h
    · exact h
    · omega
    · omega
  · have e : b + mb_a k = b + mb_a k' + 1 + i := e
    have hk' : 0 < m_n1 k' + m_n2 k' := by omega
    rcases mb_d2 k (m_n_lt hk) k' (m_n_lt hk') hk hk' with h | h | h
    · subst h; omega
    · omega
    · omega
  · have e : b + mb_a k + 1 + i = b + mb_a k' + 1 + i' := e
    have hk : 0 < m_n1 k + m_n2 k := by omega
    have hk' : 0 < m_n1 k' + m_n2 k' := by omega
    rcases mb_d2 k (m_n_lt hk) k' (m_n_lt hk') hk hk' with h | h | h
    · subst h; exact ⟨rfl, by omega⟩
    · omega
    · omega
theorem mb_V (G : HG) (b : Nat) : ∀ k, k < 50 → vp_V (mb_fs b) k = m_V (mX G b) m0 k := by
  intro k hk
  have : k = 0 ∨ k = 1 ∨ k = 2 ∨ k = 3 ∨ k = 4 ∨ k = 5 ∨ k = 6 ∨ k = 7 ∨ k = 8 ∨ k = 9 ∨ k = 10 ∨ k = 11 ∨ k = 12 ∨ k = 13 ∨ k = 14 ∨ k = 15 ∨ k = 16 ∨ k = 17 ∨ k = 18 ∨ k = 19 ∨ k = 20 ∨ k = 21 ∨ k = 22 ∨ k = 23 ∨ k = 24 ∨ k = 25 ∨ k = 26 ∨ k = 27 ∨ k = 28 ∨ k = 29 ∨ k = 30 ∨ k = 31 ∨ k = 32 ∨ k = 33 ∨ k = 34 ∨ k = 35 ∨ k = 36 ∨ k = 37 ∨ k = 38 ∨ k = 39 ∨ k = 40 ∨ k = 41 ∨ k = 42 ∨ k = 43 ∨ k = 44 ∨ k = 45 ∨ k = 46 ∨ k = 47 ∨ k = 48 ∨ k = 49 := by omega
  rcases this with rfl | rfl | rfl | rfl | rfl | rfl | rfl | rfl | rfl | rfl | rfl | rfl | rfl | rfl | rfl | rfl | rfl | rfl | rfl | rfl | rfl | rfl | rfl | rfl | rfl | rfl | rfl | rfl | rfl | rfl | rfl | rfl | rfl | rfl | rfl | rfl | rfl | rfl | rfl | rfl | rfl | rfl | rfl | rfl | rfl | rfl | rfl | rfl | rfl | rfl <;> rfl
/-- what eX4_init leaves is the model's world, new -/
theorem minit_W {G : HG} {A : Nat → Prop} {τ1 : HP} {b : Nat} {H : Heap} (hW : Hw G A τ1 H) (h1 : τ1.1 b = some (.inr (17, mb_fs b))) (h2 : τ1.1 (b + 11) = some (.inl (0, 10, .inl (mb_h 10)))) (h3 : ∀ it ∈ mb_L b, it.1 ≠ b + 11 → mb_ok τ1 it) : mW (mX G b) m0 H := by
  have hL : ∀ z ∈ mb_offs, z.1 ≠ 11 → mb_ok τ1 (b + z.1, z.2) := fun z hz hne => h3 _ (List.mem_map.mpr ⟨z, hz, rfl⟩) (by show b + z.1 ≠ b + 11; omega)
  refine ⟨?_, fun k hk => ?_, fun k hk => ?_, fun k i hi => ?_⟩
  · obtain ⟨r, hr, hB⟩ := (hW.2 b _ h1).1
    cases (show clw[17]? = some (RX4, TX4, 50) from rfl).symm.trans hr
    exact hB.to (mb_V G b)
  · have hk5 := m_n_lt (k := k) (by omega)
    have hm := mb_d3 k hk5 hk
    by_cases c : mb_a k = 11
    · have := mb_d5 k hk5 c
      subst this
      exact (hW.2 _ _ h2).1
    · have := hL _ hm c
      have h13 : k ≠ 13 := fun h => c (by subst h; rfl)
      have h4 : τ1.1 (b + mb_a k) = some (.inl (0, m_n1 k, .inl (fun _ => 0))) := this
      have h5 := (hW.2 _ _ h4).1
      show H[b + mb_a k]? = some (vp_cell (G.2.1 0) (m_n1 k, .inl (if k = 13 then mb_h 10 else fun _ => 0)))
      rw [if_neg h13]
      exact h5
  · have hk5 := m_n_lt (k := k) (by omega)
    have c : mb_a k ≠ 11 := fun c => by
      have := mb_d5 k hk5 c
      subst this
      exact absurd hk (by decide)
    exact (hW.2 _ _ (hL _ (mb_d4 k hk5 hk) c).1).1
  · have hk : 0 < m_n2 k := by omega
    have hk5 := m_n_lt (k := k) (by omega)
    have c : mb_a k ≠ 11 := fun c => by
      have := mb_d5 k hk5 c
      subst this
      exact absurd hk (by decide)
    exact (hW.2 _ _ ((hL _ (mb_d4 k hk5 hk) c).2 i hi)).1
