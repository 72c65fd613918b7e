/-! WHAT THE MODEL'S CONSTRUCTOR MAKES (by gen/minit.py). -/
set_option maxRecDepth 100000
abbrev MI : Type := Nat × (Nat ⊕ (Nat × Nat))
def mb_sz (it : MI) : Nat := match it.2 with | .inl _ => 1 | .inr z => 1 + z.1
def mb_ok (τ : HP) (it : MI) : Prop := match it.2 with
  | .inl N => τ.1 it.1 = some (.inl (0, N, .inl (fun _ => 0)))
  | .inr z => τ.1 it.1 = some (.inl (6, z.1, .inr (.inr (.inr (.inr (fun i => some (it.1 + 1 + i))))))) ∧ ∀ j, j < z.1 → τ.1 (it.1 + 1 + j) = some (.inl (0, z.2, .inl (fun _ => 0)))
theorem mb_ok.kept {τ τ1 : HP} {it : MI} (h : mb_ok τ it) (hq : ∀ q, it.1 ≤ q → q < it.1 + mb_sz it → τ1.1 q = τ.1 q) : mb_ok τ1 it := by
  obtain ⟨a, N | ⟨N, K⟩⟩ := it
  · exact (hq a (Nat.le_refl _) (by show a < a + 1; omega)).trans h
  · refine ⟨(hq a (Nat.le_refl _) (by show a < a + (1 + N); omega)).trans h.1, fun j hj => (hq _ (by show a ≤ a + 1 + j; omega) (by show a + 1 + j < a + (1 + N); have : j < N := hj; omega)).trans (h.2 j hj)⟩
def MB (τ0 τ : HP) (b n : Nat) (fs : List Value) (L : List MI) : Prop := τ.1 b = some (.inr (17, fs)) ∧ τ.2 = n ∧ b < n ∧ fs.length = 50 ∧ (∀ q, q < b → τ.1 q = τ0.1 q) ∧ (∀ it ∈ L, mb_ok τ it ∧ b < it.1 ∧ it.1 + mb_sz it ≤ n)
theorem mb_hp {τ0 τ : HP} {b n k : Nat} {fs : List Value} {L : List MI} {v v1 : Value} {fs1 : List Value} (h : MB τ0 τ b n fs L) (hk : k < 50) (hv : v = v1) (hf : fs.set k v1 = fs1) : ∃ τ1, hp τ b [17] k v = some τ1 ∧ MB τ0 τ1 b n fs1 L := by
  subst hv
  subst hf
  obtain ⟨h1, h2, h3, h4, h5, h6⟩ := h
  refine ⟨hst τ b (.inr (17, fs.set k v)), ?_, ?_, h2, h3, by rw [List.length_set]; exact h4, fun q hq => ?_, fun it hi => ⟨(h6 it hi).1.kept fun q hq _ => ?_, (h6 it hi).2⟩⟩
  · unfold hp
    rw [h1]
    show (if (_ ∧ _) ∧ _ then _ else _) = _
    rw [if_pos ⟨⟨rfl, by decide⟩, by rw [h4]; exact hk⟩]
  · show (if b = b then _ else _) = _
    rw [if_pos rfl]
  · show (if q = b then _ else _) = _
    rw [if_neg (by omega)]
    exact h5 q hq
  · show (if q = b then _ else _) = _
    have := (h6 it hi).2.1
    rw [if_neg (by omega)]
theorem mb_new {τ0 τ : HP} {b n n1 N : Nat} {fs : List Value} {L : List MI} (h : MB τ0 τ b n fs L) (hn : n + 1 = n1) : MB τ0 (hnew τ (.inl (0, N, .inl (fun _ => 0)))) b n1 fs ((n, .inl N) :: L) := by
  subst hn
  obtain ⟨h1, h2, h3, h4, h5, h6⟩ := h
  have o : ∀ q, q ≠ n → (hnew τ (.inl (0, N, .inl (fun _ => 0)))).1 q = τ.1 q := fun q hq => by
    show (if q = τ.2 then _ else _) = _
    rw [if_neg (by rw [h2]; exact hq)]
  refine ⟨(o b (by omega)).trans h1, by show τ.2 + 1 = _; rw [h2], by omega, h4, fun q hq => (o q (by omega)).trans (h5 q hq), fun it hi => ?_⟩
  rcases List.mem_cons.mp hi with rfl | hi
  · refine ⟨?_, h3, Nat.le_refl _⟩
    show (if n = τ.2 then _ else _) = _
    rw [if_pos h2.symm]
  · have := (h6 it hi).2
    exact ⟨(h6 it hi).1.kept fun q _ hq => o q (by omega), this.1, by omega⟩
theorem mb_mnew {τ0 τ : HP} {b n n1 N K : Nat} {fs : List Value} {L : List MI} (h : MB τ0 τ b n fs L) (hn : n + 1 + N = n1) : MB τ0 (hmnew τ N K) b n1 fs ((n, .inr (N, K)) :: L) := by
  subst hn
  obtain ⟨h1, h2, h3, h4, h5, h6⟩ := h
  have o : ∀ q, q < n → (hmnew τ N K).1 q = τ.1 q := fun q hq => by
    show (if q = τ.2 then _ else if τ.2 < q ∧ q < τ.2 + 1 + N then _ else _) = _
    rw [if_neg (by omega), if_neg (by omega)]
  refine ⟨(o b (by omega)).trans h1, by show τ.2 + 1 + N = _; rw [h2], by omega, h4, fun q hq => (o q (by omega)).trans (h5 q hq), fun it hi => ?_⟩
  rcases List.mem_cons.mp hi with rfl | hi
  · refine ⟨⟨?_, fun j hj => ?_⟩, h3, by show n + (1 + N) ≤ _; omega⟩
    · show (if n = τ.2 then _ else _) = _
      rw [if_pos h2.symm, h2]
    · show (if n + 1 + j = τ.2 then _ else if τ.2 < n + 1 + j ∧ n + 1 + j < τ.2 + 1 + N then _ else _) = _
      have hj : j < N := hj
      rw [if_neg (by omega), if_pos (by omega)]
  · have := (h6 it hi).2
    exact ⟨(h6 it hi).1.kept fun q _ hq => o q (by omega), this.1, by omega⟩
theorem mb_bd {α β : Type} {x : Option α} {f : α → Option β} {a : α} {P : β → Prop} (h : x = some a) (k : ∃ y, f a = some y ∧ P y) : ∃ y, wt_bd x f = some y ∧ P y := by
  subst h
  exact k
theorem mb_lt {α β : Type} {f : α → Option β} {a : α} {P : β → Prop} (k : ∃ y, f a = some y ∧ P y) : ∃ y, wt_lt a f = some y ∧ P y := k
/-- the loop that sets all holds to 16 -/
def mb_h (i : Nat) : Nat → Int32 := fun j => if j < i then 16 else 0
theorem mb_step {τ : HP} {b a i : Nat} {fs : List Value} (hi : i < 10) (h1 : τ.1 b = some (.inr (17, fs))) (h2 : fs[13]? = some (.ref a)) (h3 : τ.1 a = some (.inl (0, 10, .inl (mb_h i)))) : bX4_init_1 b (Int32.ofNat i, τ) = some (.inl (Int32.ofNat (i + 1), hst τ a (.inl (0, 10, .inl (mb_h (i + 1)))))) := by
  have e1 : hgA τ b [17] 13 = some a := by
    unfold hgA hg
    rw [h1]
    show (match fs[13]? with | some (.ref q) => some q | _ => none) = _
    rw [h2]
  have e2 : haI τ a 0 = some (10, mb_h i) := by
    unfold haI
    rw [h3]
    rfl
  have e3 : (Int32.ofNat i).toNatClampNeg = i ∧ ¬ (10 : Int32) ≤ Int32.ofNat i ∧ ¬ Int32.ofNat i < 0 ∧ Int32.ofNat i + 1 = Int32.ofNat (i + 1) := by
    have : i = 0 ∨ i = 1 ∨ i = 2 ∨ i = 3 ∨ i = 4 ∨ i = 5 ∨ i = 6 ∨ i = 7 ∨ i = 8 ∨ i = 9 := by omega
    rcases this with rfl | rfl | rfl | rfl | rfl | rfl | rfl | rfl | rfl | rfl <;> decide
  have e4 : upd (mb_h i) i 16 = mb_h (i + 1) := by
    funext j
    unfold upd mb_h
    by_cases c1 : j = i
    · rw [if_pos c1, if_pos (by omega)]
    · rw [if_neg c1]
      by_cases c2 : j < i
      · rw [if_pos c2, if_pos (by omega)]
      · rw [if_neg c2, if_neg (by omega)]
  unfold bX4_init_1
  show (if (10 : Int32) ≤ Int32.ofNat i then _ else _) = _
  rw [if_neg e3.2.1]
  show wt_bd (hgA τ b [17] 13) _ = _
  rw [e1]
  show wt_bd (haI τ a 0) _ = _
  rw [e2]
  show wt_ck (vp_in (Int32.ofNat i) 10) _ = _
  rw [wt_ck_t (show vp_in (Int32.ofNat i) 10 from fun h => h.elim e3.2.2.1 (by rw [e3.1]; omega))]
  show some (Sum.inl (Int32.ofNat i + 1, hst τ a (.inl (0, 10, .inl (upd (mb_h i) (Int32.ofNat i).toNatClampNeg 16))))) = _
  rw [e3.1, e4, e3.2.2.2]
theorem mb_loop {b a : Nat} {fs : List Value} (h2 : fs[13]? = some (.ref a)) (hab : a ≠ b) : ∀ (d i : Nat) (τ : HP), i + d = 10 → τ.1 b = some (.inr (17, fs)) → τ.1 a = some (.inl (0, 10, .inl (mb_h i))) → ∃ τ1, wt_whC (bX4_init_1 b) (Int32.ofNat i, τ) = some τ1 ∧ τ1.2 = τ.2 ∧ (∀ q, q ≠ a → τ1.1 q = τ.1 q) ∧ τ1.1 a = some (.inl (0, 10, .inl (mb_h 10))) := by
  intro d
  induction d with
  | zero =>
    intro i τ hi h1 h3
    have : i = 10 := by omega
    subst this
    exact ⟨τ, wt_whC_e (by unfold bX4_init_1; exact if_pos (show (10 : Int32) ≤ Int32.ofNat 10 by decide)), rfl, fun _ _ => rfl, h3⟩
  | succ d ih =>
    intro i τ hi h1 h3
    have g : ∀ q, q ≠ a → (hst τ a (.inl (0, 10, .inl (mb_h (i + 1))))).1 q = τ.1 q := fun q hq => by
      show (if q = a then _ else _) = _
      rw [if_neg hq]
    obtain ⟨τ1, w1, w2, w3, w4⟩ := ih (i + 1) (hst τ a (.inl (0, 10, .inl (mb_h (i + 1))))) (by omega) ((g b (Ne.symm hab)).trans h1) (by show (if a = a then _ else _) = _; rw [if_pos rfl])
    exact ⟨τ1, wt_whC_i (mb_step (by omega) h1 h2 h3) w1, w2, fun q hq => (w3 q hq).trans (g q hq), w4⟩

def mb_fs0 : List Value := [.int 0, .int 0, .int 0, .int 0, .int 0, .int 0, .int 0, .null, .int 0, .int 0, .int 0, .int 0, .null, .null, .null, .null, .int 0, .int 0, .int 0, .int 0, .null, .null, .null, .null, .int 0, .null, .null, .null, .int 0, .int 0, .int 0, .int 0, .null, .null, .null, .null, .null, .null, .null, .null, .null, .int 0, .int 0, .int 0, .int 0, .int 0, .int 0, .int 0, .null, .int 0]
def mb_fs (b : Nat) : List Value := [.int 0, .int 0, .int 0, .int (-1), .int 0, .int 0, .int 0, .ref (b + 1), .int 0, .int 0, .int 0, .int (8), .ref (b + 2), .ref (b + 11), .ref (b + 12), .ref (b + 13), .int 0, .int 0, .int 0, .int 0, .ref (b + 14), .ref (b + 23), .ref (b + 24), .ref (b + 25), .int 0, .ref (b + 26), .ref (b + 27), .ref (b + 108), .int 0, .int 0, .int 0, .int 0, .ref (b + 130), .ref (b + 139), .ref (b + 140), .ref (b + 153), .ref (b + 178), .ref (b + 182), .ref (b + 219), .ref (b + 223), .ref (b + 234), .int (-1), .int (-1), .int 0, .int 0, .int (-1), .int 0, .int 0, .ref (b + 235), .int 0]
def mb_offs : List MI := [(235, .inr (3, 330)), (234, .inl 10), (223, .inr (10, 10)), (219, .inr (3, 3)), (182, .inr (36, 3)), (178, .inr (3, 40)), (153, .inr (24, 4)), (140, .inr (12, 3)), (139, .inl 40), (130, .inr (8, 4)), (108, .inr (21, 4)), (27, .inr (80, 4)), (26, .inl 4), (25, .inl 10), (24, .inl 10), (23, .inl 10), (14, .inr (8, 10)), (13, .inl 10), (12, .inl 10), (11, .inl 10), (2, .inr (8, 10)), (1, .inl 400)]
def mb_L (b : Nat) : List MI := mb_offs.map (fun z => (b + z.1, z.2))
theorem mb_offs_ok : ∀ z ∈ mb_offs, z.1 = 11 ∨ 11 < z.1 ∨ z.1 + mb_sz z ≤ 11 := by decide
def mb_f0 (b : Nat) : List Value := mb_fs0
def mb_f1 (b : Nat) : List Value := [.int 0, .int 0, .int 0, .int (-1), .int 0, .int 0, .int 0, .null, .int 0, .int 0, .int 0, .int 0, .null, .null, .null, .null, .int 0, .int 0, .int 0, .int 0, .null, .null, .null, .null, .int 0, .null, .null, .null, .int 0, .int 0, .int 0, .int 0, .null, .null, .null, .null, .null, .null, .null, .null, .null, .int 0, .int 0, .int 0, .int 0, .int 0, .int 0, .int 0, .null, .int 0]
def mb_f2 (b : Nat) : List Value := [.int 0, .int 0, .int 0, .int (-1), .int 0, .int 0, .int 0, .ref (b + 1), .int 0, .int 0, .int 0, .int 0, .null, .null, .null, .null, .int 0, .int 0, .int 0, .int 0, .null, .null, .null, .null, .int 0, .null, .null, .null, .int 0, .int 0, .int 0, .int 0, .null, .null, .null, .null, .null, .null, .null, .null, .null, .int 0, .int 0, .int 0, .int 0, .int 0, .int 0, .int 0, .null, .int 0]
def mb_f3 (b : Nat) : List Value := [.int 0, .int 0, .int 0, .int (-1), .int 0, .int 0, .int 0, .ref (b + 1), .int 0, .int 0, .int 0, .int (8), .null, .null, .null, .null, .int 0, .int 0, .int 0, .int 0, .null, .null, .null, .null, .int 0, .null, .null, .null, .int 0, .int 0, .int 0, .int 0, .null, .null, .null, .null, .null, .null, .null, .null, .null, .int 0, .int 0, .int 0, .int 0, .int 0, .int 0, .int 0, .null, .int 0]
def mb_f4 (b : Nat) : List Value := [.int 0, .int 0, .int 0, .int (-1), .int 0, .int 0, .int 0, .ref (b + 1), .int 0, .int 0, .int 0, .int (8), .ref (b + 2), .null, .null, .null, .int 0, .int 0, .int 0, .int 0, .null, .null, .null, .null, .int 0, .null, .null, .null, .int 0, .int 0, .int 0, .int 0, .null, .null, .null, .null, .null, .null, .null, .null, .null, .int 0, .int 0, .int 0, .int 0, .int 0, .int 0, .int 0, .null, .int 0]
def mb_f5 (b : Nat) : List Value := [.int 0, .int 0, .int 0, .int (-1), .int 0, .int 0, .int 0, .ref (b + 1), .int 0, .int 0, .int 0, .int (8), .ref (b + 2), .ref (b + 11), .null, .null, .int 0, .int 0, .int 0, .int 0, .null, .null, .null, .null, .int 0, .null, .null, .null, .int 0, .int 0, .int 0, .int 0, .null, .null, .null, .null, .null, .null, .null, .null, .null, .int 0, .int 0, .int 0, .int 0, .int 0, .int 0, .int 0, .null, .int 0]
def mb_f6 (b : Nat) : List Value := [.int 0, .int 0, .int 0, .int (-1), .int 0, .int 0, .int 0, .ref (b + 1), .int 0, .int 0, .int 0, .int (8), .ref (b + 2), .ref (b + 11), .ref (b + 12), .null, .int 0, .int 0, .int 0, .int 0, .null, .null, .null, .null, .int 0, .null, .null, .null, .int 0, .int 0, .int 0, .int 0, .null, .null, .null, .null, .null, .null, .null, .null, .null, .int 0, .int 0, .int 0, .int 0, .int 0, .int 0, .int 0, .null, .int 0]
def mb_f7 (b : Nat) : List Value := [.int 0, .int 0, .int 0, .int (-1), .int 0, .int 0, .int 0, .ref (b + 1), .int 0, .int 0, .int 0, .int (8), .ref (b + 2), .ref (b + 11), .ref (b + 12), .ref (b + 13), .int 0, .int 0, .int 0, .int 0, .null, .null, .null, .null, .int 0, .null, .null, .null, .int 0, .int 0, .int 0, .int 0, .null, .null, .null, .null, .null, .null, .null, .null, .null, .int 0, .int 0, .int 0, .int 0, .int 0, .int 0, .int 0, .null, .int 0]
def mb_f8 (b : Nat) : List Value := [.int 0, .int 0, .int 0, .int (-1), .int 0, .int 0, .int 0, .ref (b + 1), .int 0, .int 0, .int 0, .int (8), .ref (b + 2), .ref (b + 11), .ref (b + 12), .ref (b + 13), .int 0, .int 0, .int 0, .int 0, .ref (b + 14), .null, .null, .null, .int 0, .null, .null, .null, .int 0, .int 0, .int 0, .int 0, .null, .null, .null, .null, .null, .null, .null, .null, .null, .int 0, .int 0, .int 0, .int 0, .int 0, .int 0, .int 0, .null, .int 0]
def mb_f9 (b : Nat) : List Value := [.int 0, .int 0, .int 0, .int (-1), .int 0, .int 0, .int 0, .ref (b + 1), .int 0, .int 0, .int 0, .int (8), .ref (b + 2), .ref (b + 11), .ref (b + 12), .ref (b + 13), .int 0, .int 0, .int 0, .int 0, .ref (b + 14), .ref (b + 23), .null, .null, .int 0, .null, .null, .null, .int 0, .int 0, .int 0, .int 0, .null, .null, .null, .null, .null, .null, .null, .null, .null, .int 0, .int 0, .int 0, .int 0, .int 0, .int 0, .int 0, .null, .int 0]
def mb_f10 (b : Nat) : List Value := [.int 0, .int 0, .int 0, .int (-1), .int 0, .int 0, .int 0, .ref (b + 1), .int 0, .int 0, .int 0, .int (8), .ref (b + 2), .ref (b + 11), .ref (b + 12), .ref (b + 13), .int 0, .int 0, .int 0, .int 0, .ref (b + 14), .ref (b + 23), .ref (b + 24), .null, .int 0, .null, .null, .null, .int 0, .int 0, .int 0, .int 0, .null, .null, .null, .null, .null, .null, .null, .null, .null, .int 0, .int 0, .int 0, .int 0, .int 0, .int 0, .int 0, .null, .int 0]
def mb_f11 (b : Nat) : List Value := [.int 0, .int 0, .int 0, .int (-1), .int 0, .int 0, .int 0, .ref (b + 1), .int 0, .int 0, .int 0, .int (8), .ref (b + 2), .ref (b + 11), .ref (b + 12), .ref (b + 13), .int 0, .int 0, .int 0, .int 0, .ref (b + 14), .ref (b + 23), .ref (b + 24), .ref (b + 25), .int 0, .null, .null, .null, .int 0, .int 0, .int 0, .int 0, .null, .null, .null, .null, .null, .null, .null, .null, .null, .int 0, .int 0, .int 0, .int 0, .int 0, .int 0, .int 0, .null, .int 0]
def mb_f12 (b : Nat) : List Value := [.int 0, .int 0, .int 0, .int (-1), .int 0, .int 0, .int 0, .ref (b + 1), .int 0, .int 0, .int 0, .int (8), .ref (b + 2), .ref (b + 11), .ref (b + 12), .ref (b + 13), .int 0, .int 0, .int 0, .int 0, .ref (b + 14), .ref (b + 23), .ref (b + 24), .ref (b + 25), .int 0, .ref (b + 26), .null, .null, .int 0, .int 0, .int 0, .int 0, .null, .null, .null, .null, .null, .null, .null, .null, .null, .int 0, .int 0, .int 0, .int 0, .int 0, .int 0, .int 0, .null, .int 0]
def mb_f13 (b : Nat) : List Value := [.int 0, .int 0, .int 0, .int (-1), .int 0, .int 0, .int 0, .ref (b + 1), .int 0, .int 0, .int 0, .int (8), .ref (b + 2), .ref (b + 11), .ref (b + 12), .ref (b + 13), .int 0, .int 0, .int 0, .int 0, .ref (b + 14), .ref (b + 23), .ref (b + 24), .ref (b + 25), .int 0, .ref (b + 26), .ref (b + 27), .null, .int 0, .int 0, .int 0, .int 0, .null, .null, .null, .null, .null, .null, .null, .null, .null, .int 0, .int 0, .int 0, .int 0, .int 0, .int 0, .int 0, .null, .int 0]
def mb_f14 (b : Nat) : List Value := [.int 0, .int 0, .int 0, .int (-1), .int 0, .int 0, .int 0, .ref (b + 1), .int 0, .int 0, .int 0, .int (8), .ref (b + 2), .ref (b + 11), .ref (b + 12), .ref (b + 13), .int 0, .int 0, .int 0, .int 0, .ref (b + 14), .ref (b + 23), .ref (b + 24), .ref (b + 25), .int 0, .ref (b + 26), .ref (b + 27), .ref (b + 108), .int 0, .int 0, .int 0, .int 0, .null, .null, .null, .null, .null, .null, .null, .null, .null, .int 0, .int 0, .int 0, .int 0, .int 0, .int 0, .int 0, .null, .int 0]
def mb_f15 (b : Nat) : List Value := [.int 0, .int 0, .int 0, .int (-1), .int 0, .int 0, .int 0, .ref (b + 1), .int 0, .int 0, .int 0, .int (8), .ref (b + 2), .ref (b + 11), .ref (b + 12), .ref (b + 13), .int 0, .int 0, .int 0, .int 0, .ref (b + 14), .ref (b + 23), .ref (b + 24), .ref (b + 25), .int 0, .ref (b + 26), .ref (b + 27), .ref (b + 108), .int 0, .int 0, .int 0, .int 0, .ref (b + 130), .null, .null, .null, .null, .null, .null, .null, .null, .int 0, .int 0, .int 0, .int 0, .int 0, .int 0, .int 0, .null, .int 0]
def mb_f16 (b : Nat) : List Value := [.int 0, .int 0, .int 0, .int (-1), .int 0, .int 0, .int 0, .ref (b + 1), .int 0, .int 0, .int 0, .int (8), .ref (b + 2), .ref (b + 11), .ref (b + 12), .ref (b + 13), .int 0, .int 0, .int 0, .int 0, .ref (b + 14), .ref (b + 23), .ref (b + 24), .ref (b + 25), .int 0, .ref (b + 26), .ref (b + 27), .ref (b + 108), .int 0, .int 0, .int 0, .int 0, .ref (b + 130), .ref (b + 139), .null, .null, .null, .null, .null, .null, .null, .int 0, .int 0, .int 0, .int 0, .int 0, .int 0, .int 0, .null, .int 0]
def mb_f17 (b : Nat) : List Value := [.int 0, .int 0, .int 0, .int (-1), .int 0, .int 0, .int 0, .ref (b + 1), .int 0, .int 0, .int 0, .int (8), .ref (b + 2), .ref (b + 11), .ref (b + 12), .ref (b + 13), .int 0, .int 0, .int 0, .int 0, .ref (b + 14), .ref (b + 23), .ref (b + 24), .ref (b + 25), .int 0, .ref (b + 26), .ref (b + 27), .ref (b + 108), .int 0, .int 0, .int 0, .int 0, .ref (b + 130), .ref (b + 139), .ref (b + 140), .null, .null, .null, .null, .null, .null, .int 0, .int 0, .int 0, .int 0, .int 0, .int 0, .int 0, .null, .int 0]
def mb_f18 (b : Nat) : List Value := [.int 0, .int 0, .int 0, .int (-1), .int 0, .int 0, .int 0, .ref (b + 1), .int 0, .int 0, .int 0, .int (8), .ref (b + 2), .ref (b + 11), .ref (b + 12), .ref (b + 13), .int 0, .int 0, .int 0, .int 0, .ref (b + 14), .ref (b + 23), .ref (b + 24), .ref (b + 25), .int 0, .ref (b + 26), .ref (b + 27), .ref (b + 108), .int 0, .int 0, .int 0, .int 0, .ref (b + 130), .ref (b + 139), .ref (b + 140), .ref (b + 153), .null, .null, .null, .null, .null, .int 0, .int 0, .int 0, .int 0, .int 0, .int 0, .int 0, .null, .int 0]
def mb_f19 (b : Nat) : List Value := [.int 0, .int 0, .int 0, .int (-1), .int 0, .int 0, .int 0, .ref (b + 1), .int 0, .int 0, .int 0, .int (8), .ref (b + 2), .ref (b + 11), .ref (b + 12), .ref (b + 13), .int 0, .int 0, .int 0, .int 0, .ref (b + 14), .ref (b + 23), .ref (b + 24), .ref (b + 25), .int 0, .ref (b + 26), .ref (b + 27), .ref (b + 108), .int 0, .int 0, .int 0, .int 0, .ref (b + 130), .ref (b + 139), .ref (b + 140), .ref (b + 153), .ref (b + 178), .null, .null, .null, .null, .int 0, .int 0, .int 0, .int 0, .int 0, .int 0, .int 0, .null, .int 0]
def mb_f20 (b : Nat) : List Value := [.int 0, .int 0, .int 0, .int (-1), .int 0, .int 0, .int 0, .ref (b + 1), .int 0, .int 0, .int 0, .int (8), .ref (b + 2), .ref (b + 11), .ref (b + 12), .ref (b + 13), .int 0, .int 0, .int 0, .int 0, .ref (b + 14), .ref (b + 23), .ref (b + 24), .ref (b + 25), .int 0, .ref (b + 26), .ref (b + 27), .ref (b + 108), .int 0, .int 0, .int 0, .int 0, .ref (b + 130), .ref (b + 139), .ref (b + 140), .ref (b + 153), .ref (b + 178), .ref (b + 182), .null, .null, .null, .int 0, .int 0, .int 0, .int 0, .int 0, .int 0, .int 0, .null, .int 0]
def mb_f21 (b : Nat) : List Value := [.int 0, .int 0, .int 0, .int (-1), .int 0, .int 0, .int 0, .ref (b + 1), .int 0, .int 0, .int 0, .int (8), .ref (b + 2), .ref (b + 11), .ref (b + 12), .ref (b + 13), .int 0, .int 0, .int 0, .int 0, .ref (b + 14), .ref (b + 23), .ref (b + 24), .ref (b + 25), .int 0, .ref (b + 26), .ref (b + 27), .ref (b + 108), .int 0, .int 0, .int 0, .int 0, .ref (b + 130), .ref (b + 139), .ref (b + 140), .ref (b + 153), .ref (b + 178), .ref (b + 182), .ref (b + 219), .null, .null, .int 0, .int 0, .int 0, .int 0, .int 0, .int 0, .int 0, .null, .int 0]
def mb_f22 (b : Nat) : List Value := [.int 0, .int 0, .int 0, .int (-1), .int 0, .int 0, .int 0, .ref (b + 1), .int 0, .int 0, .int 0, .int (8), .ref (b + 2), .ref (b + 11), .ref (b + 12), .ref (b + 13), .int 0, .int 0, .int 0, .int 0, .ref (b + 14), .ref (b + 23), .ref (b + 24), .ref (b + 25), .int 0, .ref (b + 26), .ref (b + 27), .ref (b + 108), .int 0, .int 0, .int 0, .int 0, .ref (b + 130), .ref (b + 139), .ref (b + 140), .ref (b + 153), .ref (b + 178), .ref (b + 182), .ref (b + 219), .ref (b + 223), .null, .int 0, .int 0, .int 0, .int 0, .int 0, .int 0, .int 0, .null, .int 0]
def mb_f23 (b : Nat) : List Value := [.int 0, .int 0, .int 0, .int (-1), .int 0, .int 0, .int 0, .ref (b + 1), .int 0, .int 0, .int 0, .int (8), .ref (b + 2), .ref (b + 11), .ref (b + 12), .ref (b + 13), .int 0, .int 0, .int 0, .int 0, .ref (b + 14), .ref (b + 23), .ref (b + 24), .ref (b + 25), .int 0, .ref (b + 26), .ref (b + 27), .ref (b + 108), .int 0, .int 0, .int 0, .int 0, .ref (b + 130), .ref (b + 139), .ref (b + 140), .ref (b + 153), .ref (b + 178), .ref (b + 182), .ref (b + 219), .ref (b + 223), .ref (b + 234), .int 0, .int 0, .int 0, .int 0, .int 0, .int 0, .int 0, .null, .int 0]
def mb_f24 (b : Nat) : List Value := [.int 0, .int 0, .int 0, .int (-1), .int 0, .int 0, .int 0, .ref (b + 1), .int 0, .int 0, .int 0, .int (8), .ref (b + 2), .ref (b + 11), .ref (b + 12), .ref (b + 13), .int 0, .int 0, .int 0, .int 0, .ref (b + 14), .ref (b + 23), .ref (b + 24), .ref (b + 25), .int 0, .ref (b + 26), .ref (b + 27), .ref (b + 108), .int 0, .int 0, .int 0, .int 0, .ref (b + 130), .ref (b + 139), .ref (b + 140), .ref (b + 153), .ref (b + 178), .ref (b + 182), .ref (b + 219), .ref (b + 223), .ref (b + 234), .int (-1), .int 0, .int 0, .int 0, .int 0, .int 0, .int 0, .null, .int 0]
def mb_f25 (b : Nat) : List Value := [.int 0, .int 0, .int 0, .int (-1), .int 0, .int 0, .int 0, .ref (b + 1), .int 0, .int 0, .int 0, .int (8), .ref (b + 2), .ref (b + 11), .ref (b + 12), .ref (b + 13), .int 0, .int 0, .int 0, .int 0, .ref (b + 14), .ref (b + 23), .ref (b + 24), .ref (b + 25), .int 0, .ref (b + 26), .ref (b + 27), .ref (b + 108), .int 0, .int 0, .int 0, .int 0, .ref (b + 130), .ref (b + 139), .ref (b + 140), .ref (b + 153), .ref (b + 178), .ref (b + 182), .ref (b + 219), .ref (b + 223), .ref (b + 234), .int (-1), .int (-1), .int 0, .int 0, .int 0, .int 0, .int 0, .null, .int 0]
def mb_f26 (b : Nat) : List Value := [.int 0, .int 0, .int 0, .int (-1), .int 0, .int 0, .int 0, .ref (b + 1), .int 0, .int 0, .int 0, .int (8), .ref (b + 2), .ref (b + 11), .ref (b + 12), .ref (b + 13), .int 0, .int 0, .int 0, .int 0, .ref (b + 14), .ref (b + 23), .ref (b + 24), .ref (b + 25), .int 0, .ref (b + 26), .ref (b + 27), .ref (b + 108), .int 0, .int 0, .int 0, .int 0, .ref (b + 130), .ref (b + 139), .ref (b + 140), .ref (b + 153), .ref (b + 178), .ref (b + 182), .ref (b + 219), .ref (b + 223), .ref (b + 234), .int (-1), .int (-1), .int 0, .int 0, .int (-1), .int 0, .int 0, .null, .int 0]
def mb_f27 (b : Nat) : List Value := [.int 0, .int 0, .int 0, .int (-1), .int 0, .int 0, .int 0, .ref (b + 1), .int 0, .int 0, .int 0, .int (8), .ref (b + 2), .ref (b + 11), .ref (b + 12), .ref (b + 13), .int 0, .int 0, .int 0, .int 0, .ref (b + 14), .ref (b + 23), .ref (b + 24), .ref (b + 25), .int 0, .ref (b + 26), .ref (b + 27), .ref (b + 108), .int 0, .int 0, .int 0, .int 0, .ref (b + 130), .ref (b + 139), .ref (b + 140), .ref (b + 153), .ref (b + 178), .ref (b + 182), .ref (b + 219), .ref (b + 223), .ref (b + 234), .int (-1), .int (-1), .int 0, .int 0, .int (-1), .int 0, .int 0, .ref (b + 235), .int 0]
set_option maxHeartbeats 400000 in
theorem minit {τ : HP} {b : Nat} (h1 : τ.1 b = some (.inr (17, mb_fs0))) (h2 : τ.2 = b + 1) : ∃ τ1, eX4_init τ b = some τ1 ∧ τ1.2 = b + 239 ∧ τ1.1 b = some (.inr (17, mb_fs b)) ∧ (∀ q, q < b → τ1.1 q = τ.1 q) ∧ τ1.1 (b + 11) = some (.inl (0, 10, .inl (mb_h 10))) ∧ ∀ it ∈ mb_L b, it.1 ≠ b + 11 → mb_ok τ1 it := by
  have h0 : MB τ τ b (b + 1) (mb_f0 b) [] := ⟨h1, h2, Nat.lt_succ_self b, rfl, fun _ _ => rfl, fun it hi => by cases hi⟩
  unfold eX4_init
  obtain ⟨τ1, eτ1, hτ1⟩ := mb_hp (v := .int (-1 : Int32)) (fs1 := mb_f1 b) h0 (show 3 < 50 by decide) rfl rfl
  refine mb_bd eτ1 ?_
  have hτ3 := mb_new (N := 400) (n1 := b + 2) hτ1 rfl
  refine mb_lt ?_
  generalize hnew τ1 (.inl (0, 400, .inl (fun _ => 0))) = τ3 at hτ3 ⊢
  obtain ⟨τ4, eτ4, hτ4⟩ := mb_hp (v := .ref (τ1.2)) (fs1 := mb_f2 b) hτ3 (show 7 < 50 by decide) (congrArg Value.ref hτ1.2.1) rfl
  refine mb_bd eτ4 ?_
  obtain ⟨τ6, eτ6, hτ6⟩ := mb_hp (v := .int (8 : Int32)) (fs1 := mb_f3 b) hτ4 (show 11 < 50 by decide) rfl rfl
  refine mb_bd eτ6 ?_
  have hτ8 := mb_mnew (N := 8) (K := 10) (n1 := b + 11) hτ6 rfl
  refine mb_lt ?_
  generalize hmnew τ6 8 10 = τ8 at hτ8 ⊢
  obtain ⟨τ9, eτ9, hτ9⟩ := mb_hp (v := .ref (τ6.2)) (fs1 := mb_f4 b) hτ8 (show 12 < 50 by decide) (congrArg Value.ref hτ6.2.1) rfl
  refine mb_bd eτ9 ?_
  have hτ11 := mb_new (N := 10) (n1 := b + 12) hτ9 rfl
  refine mb_lt ?_
  generalize hnew τ9 (.inl (0, 10, .inl (fun _ => 0))) = τ11 at hτ11 ⊢
  obtain ⟨τ12, eτ12, hτ12⟩ := mb_hp (v := .ref (τ9.2)) (fs1 := mb_f5 b) hτ11 (show 13 < 50 by decide) (congrArg Value.ref hτ9.2.1) rfl
  refine mb_bd eτ12 ?_
  have hτ14 := mb_new (N := 10) (n1 := b + 13) hτ12 rfl
  refine mb_lt ?_
  generalize hnew τ12 (.inl (0, 10, .inl (fun _ => 0))) = τ14 at hτ14 ⊢
  obtain ⟨τ15, eτ15, hτ15⟩ := mb_hp (v := .ref (τ12.2)) (fs1 := mb_f6 b) hτ14 (show 14 < 50 by decide) (congrArg Value.ref hτ12.2.1) rfl
  refine mb_bd eτ15 ?_
  have hτ17 := mb_new (N := 10) (n1 := b + 14) hτ15 rfl
  refine mb_lt ?_
  generalize hnew τ15 (.inl (0, 10, .inl (fun _ => 0))) = τ17 at hτ17 ⊢
  obtain ⟨τ18, eτ18, hτ18⟩ := mb_hp (v := .ref (τ15.2)) (fs1 := mb_f7 b) hτ17 (show 15 < 50 by decide) (congrArg Value.ref hτ15.2.1) rfl
  refine mb_bd eτ18 ?_
  have hτ20 := mb_mnew (N := 8) (K := 10) (n1 := b + 23) hτ18 rfl
  refine mb_lt ?_
  generalize hmnew τ18 8 10 = τ20 at hτ20 ⊢
  obtain ⟨τ21, eτ21, hτ21⟩ := mb_hp (v := .ref (τ18.2)) (fs1 := mb_f8 b) hτ20 (show 20 < 50 by decide) (congrArg Value.ref hτ18.2.1) rfl
  refine mb_bd eτ21 ?_
  have hτ23 := mb_new (N := 10) (n1 := b + 24) hτ21 rfl
  refine mb_lt ?_
  generalize hnew τ21 (.inl (0, 10, .inl (fun _ => 0))) = τ23 at hτ23 ⊢
  obtain ⟨τ24, eτ24, hτ24⟩ := mb_hp (v := .ref (τ21.2)) (fs1 := mb_f9 b) hτ23 (show 21 < 50 by decide) (congrArg Value.ref hτ21.2.1) rfl
  refine mb_bd eτ24 ?_
  have hτ26 := mb_new (N := 10) (n1 := b + 25) hτ24 rfl
  refine mb_lt ?_
  generalize hnew τ24 (.inl (0, 10, .inl (fun _ => 0))) = τ26 at hτ26 ⊢
  obtain ⟨τ27, eτ27, hτ27⟩ := mb_hp (v := .ref (τ24.2)) (fs1 := mb_f10 b) hτ26 (show 22 < 50 by decide) (congrArg Value.ref hτ24.2.1) rfl
  refine mb_bd eτ27 ?_
  have hτ29 := mb_new (N := 10) (n1 := b + 26) hτ27 rfl
  refine mb_lt ?_
  generalize hnew τ27 (.inl (0, 10, .inl (fun _ => 0))) = τ29 at hτ29 ⊢
  obtain ⟨τ30, eτ30, hτ30⟩ := mb_hp (v := .ref (τ27.2)) (fs1 := mb_f11 b) hτ29 (show 23 < 50 by decide) (congrArg Value.ref hτ27.2.1) rfl
  refine mb_bd eτ30 ?_
  have hτ32 := mb_new (N := 4) (n1 := b + 27) hτ30 rfl
  refine mb_lt ?_
  generalize hnew τ30 (.inl (0, 4, .inl (fun _ => 0))) = τ32 at hτ32 ⊢
  obtain ⟨τ33, eτ33, hτ33⟩ := mb_hp (v := .ref (τ30.2)) (fs1 := mb_f12 b) hτ32 (show 25 < 50 by decide) (congrArg Value.ref hτ30.2.1) rfl
  refine mb_bd eτ33 ?_
  have hτ35 := mb_mnew (N := 80) (K := 4) (n1 := b + 108) hτ33 rfl
  refine mb_lt ?_
  generalize hmnew τ33 80 4 = τ35 at hτ35 ⊢
  obtain ⟨τ36, eτ36, hτ36⟩ := mb_hp (v := .ref (τ33.2)) (fs1 := mb_f13 b) hτ35 (show 26 < 50 by decide) (congrArg Value.ref hτ33.2.1) rfl
  refine mb_bd eτ36 ?_
  have hτ38 := mb_mnew (N := 21) (K := 4) (n1 := b + 130) hτ36 rfl
  refine mb_lt ?_
  generalize hmnew τ36 21 4 = τ38 at hτ38 ⊢
  obtain ⟨τ39, eτ39, hτ39⟩ := mb_hp (v := .ref (τ36.2)) (fs1 := mb_f14 b) hτ38 (show 27 < 50 by decide) (congrArg Value.ref hτ36.2.1) rfl
  refine mb_bd eτ39 ?_
  have hτ41 := mb_mnew (N := 8) (K := 4) (n1 := b + 139) hτ39 rfl
  refine mb_lt ?_
  generalize hmnew τ39 8 4 = τ41 at hτ41 ⊢
  obtain ⟨τ42, eτ42, hτ42⟩ := mb_hp (v := .ref (τ39.2)) (fs1 := mb_f15 b) hτ41 (show 32 < 50 by decide) (congrArg Value.ref hτ39.2.1) rfl
  refine mb_bd eτ42 ?_
  have hτ44 := mb_new (N := 40) (n1 := b + 140) hτ42 rfl
  refine mb_lt ?_
  generalize hnew τ42 (.inl (0, 40, .inl (fun _ => 0))) = τ44 at hτ44 ⊢
  obtain ⟨τ45, eτ45, hτ45⟩ := mb_hp (v := .ref (τ42.2)) (fs1 := mb_f16 b) hτ44 (show 33 < 50 by decide) (congrArg Value.ref hτ42.2.1) rfl
  refine mb_bd eτ45 ?_
  have hτ47 := mb_mnew (N := 12) (K := 3) (n1 := b + 153) hτ45 rfl
  refine mb_lt ?_
  generalize hmnew τ45 12 3 = τ47 at hτ47 ⊢
  obtain ⟨τ48, eτ48, hτ48⟩ := mb_hp (v := .ref (τ45.2)) (fs1 := mb_f17 b) hτ47 (show 34 < 50 by decide) (congrArg Value.ref hτ45.2.1) rfl
  refine mb_bd eτ48 ?_
  have hτ50 := mb_mnew (N := 24) (K := 4) (n1 := b + 178) hτ48 rfl
  refine mb_lt ?_
  generalize hmnew τ48 24 4 = τ50 at hτ50 ⊢
  obtain ⟨τ51, eτ51, hτ51⟩ := mb_hp (v := .ref (τ48.2)) (fs1 := mb_f18 b) hτ50 (show 35 < 50 by decide) (congrArg Value.ref hτ48.2.1) rfl
  refine mb_bd eτ51 ?_
  have hτ53 := mb_mnew (N := 3) (K := 40) (n1 := b + 182) hτ51 rfl
  refine mb_lt ?_
  generalize hmnew τ51 3 40 = τ53 at hτ53 ⊢
  obtain ⟨τ54, eτ54, hτ54⟩ := mb_hp (v := .ref (τ51.2)) (fs1 := mb_f19 b) hτ53 (show 36 < 50 by decide) (congrArg Value.ref hτ51.2.1) rfl
  refine mb_bd eτ54 ?_
  have hτ56 := mb_mnew (N := 36) (K := 3) (n1 := b + 219) hτ54 rfl
  refine mb_lt ?_
  generalize hmnew τ54 36 3 = τ56 at hτ56 ⊢
  obtain ⟨τ57, eτ57, hτ57⟩ := mb_hp (v := .ref (τ54.2)) (fs1 := mb_f20 b) hτ56 (show 37 < 50 by decide) (congrArg Value.ref hτ54.2.1) rfl
  refine mb_bd eτ57 ?_
  have hτ59 := mb_mnew (N := 3) (K := 3) (n1 := b + 223) hτ57 rfl
  refine mb_lt ?_
  generalize hmnew τ57 3 3 = τ59 at hτ59 ⊢
  obtain ⟨τ60, eτ60, hτ60⟩ := mb_hp (v := .ref (τ57.2)) (fs1 := mb_f21 b) hτ59 (show 38 < 50 by decide) (congrArg Value.ref hτ57.2.1) rfl
  refine mb_bd eτ60 ?_
  have hτ62 := mb_mnew (N := 10) (K := 10) (n1 := b + 234) hτ60 rfl
  refine mb_lt ?_
  generalize hmnew τ60 10 10 = τ62 at hτ62 ⊢
  obtain ⟨τ63, eτ63, hτ63⟩ := mb_hp (v := .ref (τ60.2)) (fs1 := mb_f22 b) hτ62 (show 39 < 50 by decide) (congrArg Value.ref hτ60.2.1) rfl
  refine mb_bd eτ63 ?_
  have hτ65 := mb_new (N := 10) (n1 := b + 235) hτ63 rfl
  refine mb_lt ?_
  generalize hnew τ63 (.inl (0, 10, .inl (fun _ => 0))) = τ65 at hτ65 ⊢
  obtain ⟨τ66, eτ66, hτ66⟩ := mb_hp (v := .ref (τ63.2)) (fs1 := mb_f23 b) hτ65 (show 40 < 50 by decide) (congrArg Value.ref hτ63.2.1) rfl
  refine mb_bd eτ66 ?_
  obtain ⟨τ68, eτ68, hτ68⟩ := mb_hp (v := .int (-1 : Int32)) (fs1 := mb_f24 b) hτ66 (show 41 < 50 by decide) rfl rfl
  refine mb_bd eτ68 ?_
  obtain ⟨τ70, eτ70, hτ70⟩ := mb_hp (v := .int (-1 : Int32)) (fs1 := mb_f25 b) hτ68 (show 42 < 50 by decide) rfl rfl
  refine mb_bd eτ70 ?_
  obtain ⟨τ72, eτ72, hτ72⟩ := mb_hp (v := .int (-1 : Int32)) (fs1 := mb_f26 b) hτ70 (show 45 < 50 by decide) rfl rfl
  refine mb_bd eτ72 ?_
  have hτ74 := mb_mnew (N := 3) (K := 330) (n1 := b + 239) hτ72 rfl
  refine mb_lt ?_
  generalize hmnew τ72 3 330 = τ74 at hτ74 ⊢
  obtain ⟨τ75, eτ75, hτ75⟩ := mb_hp (v := .ref (τ72.2)) (fs1 := mb_f27 b) hτ74 (show 48 < 50 by decide) (congrArg Value.ref hτ72.2.1) rfl
  refine mb_bd eτ75 ?_
  obtain ⟨g1, g2, g3, g4, g5, g6⟩ := hτ75
  obtain ⟨τ1, w1, w2, w3, w4⟩ := mb_loop (a := b + 11) rfl (by omega) 10 0 τ75 rfl g1 (g6 (b + 11, .inl 10) (by simp)).1
  refine mb_bd w1 ⟨τ1, rfl, w2.trans g2, (w3 b (by omega)).trans g1, fun q hq => (w3 q (by omega)).trans (g5 q hq), w4, fun it hi hne => ?_⟩
  have hi2 : it ∈ mb_L b := hi
  refine ((g6 it hi).1).kept fun q hq1 hq2 => w3 q fun hq => hne ?_
  obtain ⟨z, hz, rfl⟩ := List.mem_map.mp hi2
  have hq1 : b + z.1 ≤ q := hq1
  have hq2 : q < b + z.1 + mb_sz z := hq2
  show b + z.1 = b + 11
  rcases mb_offs_ok z hz with h | h | h <;> omega
