/-! THE PLAIN LAW, 18: the component reads a law -/
set_option maxRecDepth 100000
/-- the law that is being read, at a0 with its rows; D: its data; al: its bits of what is alike -/
def LwX (τ : HP) (a0 sh ho co aa : Nat) (D : MSt) (al : Nat → Int32) (ncl : Nat) : Prop :=
  ∃ fs fh fc fa, τ.1 a0 = some (.inr (1, [.ref sh, .ref ho, .ref co, .ref aa, .int (D.1 17), .int (D.1 18), .int (D.1 19), .int (nI ncl)])) ∧
    τ.1 sh = some (.inl (0, 80, .inl fs)) ∧ τ.1 ho = some (.inl (0, 10, .inl fh)) ∧ τ.1 co = some (.inl (0, 10, .inl fc)) ∧ τ.1 aa = some (.inl (0, 10, .inl fa)) ∧
    (ho ≠ co ∧ ho ≠ aa ∧ co ≠ aa) ∧ (∀ g s, g < 8 → s < 10 → fs (10 * g + s) = D.2.2 20 g s) ∧ (∀ s, s < 10 → fh s = D.2.1 21 s) ∧ (∀ s, s < 10 → fc s = D.2.1 22 s) ∧ (∀ s, s < 10 → fa s = al s) ∧ AL (D.2.1 23) al
theorem LwX.ne {τ : HP} {a0 sh ho co aa ncl : Nat} {D : MSt} {al : Nat → Int32} (h : LwX τ a0 sh ho co aa D al ncl) : a0 ≠ sh ∧ a0 ≠ ho ∧ a0 ≠ co ∧ a0 ≠ aa ∧ sh ≠ ho ∧ sh ≠ co ∧ sh ≠ aa := by
  obtain ⟨fs, fh, fc, fa, h1, h2, h3, h4, h5, -⟩ := h
  have lo : ∀ {x : Nat} {y : HC}, τ.1 a0 = some (.inr (1, [.ref sh, .ref ho, .ref co, .ref aa, .int (D.1 17), .int (D.1 18), .int (D.1 19), .int (nI ncl)])) → τ.1 x = some y → (∀ z, y ≠ .inr z) → a0 ≠ x := fun q1 q2 q3 e => by
    rw [e, q2] at q1
    cases q1
    exact q3 _ rfl
  have l2 : ∀ {x : Nat} {f : Nat → Int32}, τ.1 x = some (.inl (0, 10, .inl f)) → sh ≠ x := fun q e => by
    rw [e, q] at h2
    injection h2 with h2
    injection h2 with h2
    injection h2 with _ h2
    injection h2 with h2
    exact absurd h2 (by decide)
  exact ⟨lo h1 h2 (fun z q => by cases q), lo h1 h3 (fun z q => by cases q), lo h1 h4 (fun z q => by cases q), lo h1 h5 (fun z q => by cases q), l2 h3, l2 h4, l2 h5⟩
theorem LwX.keep {W : List Nat} {τ τ' : HP} {a0 sh ho co aa ncl : Nat} {D : MSt} {al : Nat → Int32} (h : LwX τ a0 sh ho co aa D al ncl) (hF : Fr W τ τ') (hf : Wf τ) (hw : a0 ∉ W ∧ sh ∉ W ∧ ho ∉ W ∧ co ∉ W ∧ aa ∉ W) : LwX τ' a0 sh ho co aa D al ncl := by
  obtain ⟨fs, fh, fc, fa, h1, h2, h3, h4, h5, h6⟩ := h
  exact ⟨fs, fh, fc, fa, hF.at hf h1 hw.1, hF.at hf h2 hw.2.1, hF.at hf h3 hw.2.2.1, hF.at hf h4 hw.2.2.2.1, hF.at hf h5 hw.2.2.2.2, h6⟩
theorem pB_as {α β γ : Type} {x : PR α} {f : α → PR β} {g : β → PR γ} : pB (pB x f) g = pB x fun a => pB (f a) g := by
  cases x <;> rfl
/-- a clause but for its end -/
def pCl0 (tx : Nat → Nat) (n ncl p : Nat) : PR (Nat × Nat × Nat × Nat × Nat) :=
  let q := skB tx n p
  let w := cKind (wd tx n q)
  if w = 7 then .inl (1, q) else if ncl = 24 then .inl (3, q) else
  pB (if w = 0 then pNum tx n 0 7 none (skL tx n q) else .inr (0, skL tx n q)) fun g =>
  pB (if w < 2 ∨ 4 < w then pNum tx n 0 9 none g.2 else .inr (0, g.2)) fun s =>
  pB (if w = 5 then pNum tx n 0 9 (some s.1) s.2 else pNum tx n (if w = 4 then 1 else 0) (if w = 0 then 200 else if w = 3 then 8 else if w = 4 then 15 else if w = 6 then 20 else 16) none s.2) fun v =>
  .inr (v.2, w, g.1, s.1, v.1)
theorem pCl_0 {tx : Nat → Nat} {n ncl p : Nat} : pClause tx n ncl p = pB (pCl0 tx n ncl p) fun c => pB (pSign tx n c.1) fun e => .inr (e, c.2) := by
  unfold pClause pCl0
  dsimp only
  generalize cKind (wd tx n (skB tx n p)) = w
  by_cases c7 : w = 7
  · rw [if_pos c7, if_pos c7]; rfl
  · rw [if_neg c7, if_neg c7]
    by_cases c24 : ncl = 24
    · rw [if_pos c24, if_pos c24]; rfl
    · rw [if_neg c24, if_neg c24, pB_as]
      refine congrArg _ (funext fun g => ?_)
      rw [pB_as]
      refine congrArg _ (funext fun s => ?_)
      rw [pB_as]
      rfl
/-- the outcome of a clause in the component -/
def CCl (τ : HP) (o tp n a0 sh ho co aa : Nat) (D : MSt) (ncl : Nat) (r : PR (Nat × Nat × Nat × Nat × Nat)) (out : HP ⊕ (Nat × Nat × HP)) : Prop := match r, out with
  | .inr c, .inl t => c.1 ≤ n ∧ (∃ fr, RdR t o tp n c.1 fr) ∧ Fr [o, a0, sh, ho, co, aa] τ t ∧ ∃ al', LwX t a0 sh ho co aa (mEf D c.2) al' ncl
  | .inl e, .inr x => x.1 = 4 ∧ WrR x.2.2 x.2.1 e.1 e.2 ∧ Fr [o, a0, sh, ho, co, aa] τ x.2.2
  | _, _ => False
def swC1 (lit : Nat → Nat) : List ((Int32 × Nat × Int32) × List Nat) := [((-1354814997, lit 100, 6), [99, 111, 109, 109, 111, 110]), ((3208383, lit 90, 1), [104, 111, 108, 100]), ((3433489, lit 94, 3), [112, 97, 115, 115]), ((3529140, lit 88, 0), [115, 104, 101, 100]), ((3552391, lit 96, 4), [116, 97, 107, 101]), ((3642015, lit 92, 2), [119, 97, 115, 104]), ((92903288, lit 98, 5), [97, 108, 105, 107, 101])]
def swC2 (lit : Nat → Nat) : List ((Int32 × Nat × Int32) × List Nat) := [((-1354814997, lit 100, 2), [99, 111, 109, 109, 111, 110]), ((3208383, lit 90, 1), [104, 111, 108, 100]), ((3433489, lit 94, 5), [112, 97, 115, 115]), ((3529140, lit 88, 0), [115, 104, 101, 100]), ((3642015, lit 92, 4), [119, 97, 115, 104]), ((92903288, lit 98, 3), [97, 108, 105, 107, 101])]
theorem swC1_ok {τ : HP} {lit : Nat → Nat} (h : Lits τ lit) : ∀ e, e ∈ swC1 lit → SwOk τ e.1 e.2 := by
  obtain ⟨h1, h2, h3, h4, h5, h6, h7, -⟩ := h
  intro e he
  simp only [swC1, List.mem_cons, List.not_mem_nil, or_false] at he
  rcases he with z | z | z | z | z | z | z <;> subst z
  · exact ⟨h7, by dsimp only; decide, by dsimp only; decide, by dsimp only; decide +kernel⟩
  · exact ⟨h2, by dsimp only; decide, by dsimp only; decide, by dsimp only; decide +kernel⟩
  · exact ⟨h4, by dsimp only; decide, by dsimp only; decide, by dsimp only; decide +kernel⟩
  · exact ⟨h1, by dsimp only; decide, by dsimp only; decide, by dsimp only; decide +kernel⟩
  · exact ⟨h5, by dsimp only; decide, by dsimp only; decide, by dsimp only; decide +kernel⟩
  · exact ⟨h3, by dsimp only; decide, by dsimp only; decide, by dsimp only; decide +kernel⟩
  · exact ⟨h6, by dsimp only; decide, by dsimp only; decide, by dsimp only; decide +kernel⟩
theorem swC2_ok {τ : HP} {lit : Nat → Nat} (h : Lits τ lit) : ∀ e, e ∈ swC2 lit → SwOk τ e.1 e.2 := by
  obtain ⟨h1, h2, h3, h4, h5, h6, h7, -⟩ := h
  intro e he
  simp only [swC2, List.mem_cons, List.not_mem_nil, or_false] at he
  rcases he with z | z | z | z | z | z <;> subst z
  · exact ⟨h7, by dsimp only; decide, by dsimp only; decide, by dsimp only; decide +kernel⟩
  · exact ⟨h2, by dsimp only; decide, by dsimp only; decide, by dsimp only; decide +kernel⟩
  · exact ⟨h4, by dsimp only; decide, by dsimp only; decide, by dsimp only; decide +kernel⟩
  · exact ⟨h1, by dsimp only; decide, by dsimp only; decide, by dsimp only; decide +kernel⟩
  · exact ⟨h3, by dsimp only; decide, by dsimp only; decide, by dsimp only; decide +kernel⟩
  · exact ⟨h6, by dsimp only; decide, by dsimp only; decide, by dsimp only; decide +kernel⟩
/-- a word at q as a string -/
def WdR (τ : HP) (s : Nat) (tx : Nat → Nat) (n q : Nat) : Prop := ∃ a g h z, SgR τ s a (wk tx n q) g h z ∧ HsOk g (wk tx n q) h z ∧ ∀ i, i < wk tx n q → g i = nI (tx (q + i))
theorem wk_le {tx : Nat → Nat} {n q : Nat} : wk tx n q ≤ 7 := by
  unfold wk
  split <;> omega
theorem WdR.keep {W : List Nat} {τ τ' : HP} {s q n : Nat} {tx : Nat → Nat} (h : WdR τ s tx n q) (hF : Fr W τ τ') (hf : Wf τ) (hw : ∀ w, w ∈ W → (∀ n f, τ.1 w = some (.inl (1, n, .inl f)) → n = 400) ∧ ∀ fs, τ.1 w ≠ some (.inr (15, fs))) : WdR τ' s tx n q := by
  obtain ⟨a, g, h1, z, ⟨s1, s2⟩, h2⟩ := h
  have hk := wk_le (tx := tx) (n := n) (q := q)
  exact ⟨a, g, h1, z, ⟨hF.at hf s1 (fun q => (hw _ q).2 _ s1), hF.at hf s2 (fun q => by have := (hw _ q).1 _ _ s2; omega)⟩, h2⟩
/-- the hash and the switch of a word -/
theorem cswitch {τ : HP} {s n q : Nat} {tx : Nat → Nat} {R : List ((Int32 × Nat × Int32) × List Nat)} {β : Type} {F : HP → Int32 → Option β} {Q : β → Prop} {i : Int32} (hf : Wf τ) (h : WdR τ s tx n q) (ht : ∀ k, k < n → tx k < 256)
    (hR : ∀ t, Fr [s] τ t → ∀ e, e ∈ R → SwOk t e.1 e.2) (hN : (R.map fun e => e.1.1).Nodup)
    (hi : (∃ e, e ∈ R ∧ wd tx n q = rvW e.2 ∧ e.1.2.2 = i) ∨ ((∀ e, e ∈ R → wd tx n q ≠ rvW e.2) ∧ i = -1))
    (hF : ∀ t, WdR t s tx n q → Fr [s] τ t → wp (F t i) Q) : wp (wt_bd (eJ9_hashCode τ s) fun w => wt_bd (sw w.2 s w.1 (R.map Prod.fst)) fun j => F w.2 j) Q := by
  obtain ⟨a, g, h1, z, hS, hO, hg⟩ := h
  have hk := wk_le (tx := tx) (n := n) (q := q)
  refine wp_ap (sg_hash hS hO (by omega)) fun r ⟨r1, ⟨h', z', r2, r3⟩, r4, r5⟩ => ?_
  rw [r1]
  have hok := hR r.2 r4
  obtain ⟨k1, k2⟩ := sw_all r2 (by omega) R hok hN
  have hsw : sw r.2 s (jh g (wk tx n q)) (R.map Prod.fst) = some i := by
    rcases hi with ⟨e, e1, e2, e3⟩ | ⟨e1, e2⟩
    · have ok := hok e e1
      rw [← e3]
      exact k1 e e1 ((same_wd ht hg ok.2.1 ok.2.2.1).mpr e2)
    · rw [e2]
      refine k2 fun e he hs => e1 e he ?_
      have ok := hok e he
      exact (same_wd ht hg ok.2.1 ok.2.2.1).mp hs
  rw [hsw, wt_bd_s]
  exact hF r.2 ⟨a, g, h', z', r2, r3, hg⟩ r4
theorem rv_c : rvW [99, 111, 109, 109, 111, 110] = [14, 15, 13, 13, 15, 3] ∧ rvW [104, 111, 108, 100] = [4, 12, 15, 8] ∧ rvW [112, 97, 115, 115] = [19, 19, 1, 16] ∧ rvW [115, 104, 101, 100] = [4, 5, 8, 19] ∧ rvW [116, 97, 107, 101] = [5, 11, 1, 20] ∧ rvW [119, 97, 115, 104] = [8, 19, 1, 23] ∧ rvW [97, 108, 105, 107, 101] = [5, 11, 9, 12, 1] := by decide
theorem cK_cases {W : List Nat} : (cKind W = 0 ∧ W = [4, 5, 8, 19]) ∨ (cKind W = 1 ∧ W = [4, 12, 15, 8]) ∨ (cKind W = 2 ∧ W = [8, 19, 1, 23]) ∨ (cKind W = 3 ∧ W = [19, 19, 1, 16]) ∨ (cKind W = 4 ∧ W = [5, 11, 1, 20]) ∨ (cKind W = 5 ∧ W = [5, 11, 9, 12, 1]) ∨ (cKind W = 6 ∧ W = [14, 15, 13, 13, 15, 3]) ∨ (cKind W = 7 ∧ W ≠ [4, 5, 8, 19] ∧ W ≠ [4, 12, 15, 8] ∧ W ≠ [8, 19, 1, 23] ∧ W ≠ [19, 19, 1, 16] ∧ W ≠ [5, 11, 1, 20] ∧ W ≠ [5, 11, 9, 12, 1] ∧ W ≠ [14, 15, 13, 13, 15, 3]) := by
  unfold cKind
  by_cases c0 : W = [4, 5, 8, 19]
  · rw [if_pos c0]; exact Or.inl ⟨rfl, c0⟩
  · rw [if_neg c0]; right
    by_cases c1 : W = [4, 12, 15, 8]
    · rw [if_pos c1]; exact Or.inl ⟨rfl, c1⟩
    · rw [if_neg c1]; right
      by_cases c2 : W = [8, 19, 1, 23]
      · rw [if_pos c2]; exact Or.inl ⟨rfl, c2⟩
      · rw [if_neg c2]; right
        by_cases c3 : W = [19, 19, 1, 16]
        · rw [if_pos c3]; exact Or.inl ⟨rfl, c3⟩
        · rw [if_neg c3]; right
          by_cases c4 : W = [5, 11, 1, 20]
          · rw [if_pos c4]; exact Or.inl ⟨rfl, c4⟩
          · rw [if_neg c4]; right
            by_cases c5 : W = [5, 11, 9, 12, 1]
            · rw [if_pos c5]; exact Or.inl ⟨rfl, c5⟩
            · rw [if_neg c5]; right
              by_cases c6 : W = [14, 15, 13, 13, 15, 3]
              · rw [if_pos c6]; exact Or.inl ⟨rfl, c6⟩
              · rw [if_neg c6]; exact Or.inr ⟨rfl, c0, c1, c2, c3, c4, c5, c6⟩
/-- the second switch's number of a kind -/
def ix2 (w : Nat) : Int32 := if w = 0 then 0 else if w = 1 then 1 else if w = 2 then 4 else if w = 3 then 5 else if w = 5 then 3 else if w = 6 then 2 else -1
theorem swC1_i {tx : Nat → Nat} {n q : Nat} {lit : Nat → Nat} : (∃ e, e ∈ swC1 lit ∧ wd tx n q = rvW e.2 ∧ e.1.2.2 = kI (cKind (wd tx n q)) 7) ∨ ((∀ e, e ∈ swC1 lit → wd tx n q ≠ rvW e.2) ∧ kI (cKind (wd tx n q)) 7 = -1) := by
  obtain ⟨v1, v2, v3, v4, v5, v6, v7⟩ := rv_c
  rcases cK_cases (W := wd tx n q) with ⟨a, b⟩ | ⟨a, b⟩ | ⟨a, b⟩ | ⟨a, b⟩ | ⟨a, b⟩ | ⟨a, b⟩ | ⟨a, b⟩ | ⟨a, b0, b1, b2, b3, b4, b5, b6⟩
  · exact Or.inl ⟨((3529140, lit 88, 0), [115, 104, 101, 100]), by simp [swC1], by rw [b, v4], by rw [a]; dsimp only; decide⟩
  · exact Or.inl ⟨((3208383, lit 90, 1), [104, 111, 108, 100]), by simp [swC1], by rw [b, v2], by rw [a]; dsimp only; decide⟩
  · exact Or.inl ⟨((3642015, lit 92, 2), [119, 97, 115, 104]), by simp [swC1], by rw [b, v6], by rw [a]; dsimp only; decide⟩
  · exact Or.inl ⟨((3433489, lit 94, 3), [112, 97, 115, 115]), by simp [swC1], by rw [b, v3], by rw [a]; dsimp only; decide⟩
  · exact Or.inl ⟨((3552391, lit 96, 4), [116, 97, 107, 101]), by simp [swC1], by rw [b, v5], by rw [a]; dsimp only; decide⟩
  · exact Or.inl ⟨((92903288, lit 98, 5), [97, 108, 105, 107, 101]), by simp [swC1], by rw [b, v7], by rw [a]; dsimp only; decide⟩
  · exact Or.inl ⟨((-1354814997, lit 100, 6), [99, 111, 109, 109, 111, 110]), by simp [swC1], by rw [b, v1], by rw [a]; dsimp only; decide⟩
  · refine Or.inr ⟨fun e he => ?_, by rw [a]; rfl⟩
    simp only [swC1, List.mem_cons, List.not_mem_nil, or_false] at he
    rcases he with z | z | z | z | z | z | z <;> subst z
    · rw [v1]; exact b6
    · rw [v2]; exact b1
    · rw [v3]; exact b3
    · rw [v4]; exact b0
    · rw [v5]; exact b4
    · rw [v6]; exact b2
    · rw [v7]; exact b5
theorem swC2_i {tx : Nat → Nat} {n q : Nat} {lit : Nat → Nat} : (∃ e, e ∈ swC2 lit ∧ wd tx n q = rvW e.2 ∧ e.1.2.2 = ix2 (cKind (wd tx n q))) ∨ ((∀ e, e ∈ swC2 lit → wd tx n q ≠ rvW e.2) ∧ ix2 (cKind (wd tx n q)) = -1) := by
  obtain ⟨v1, v2, v3, v4, v5, v6, v7⟩ := rv_c
  rcases cK_cases (W := wd tx n q) with ⟨a, b⟩ | ⟨a, b⟩ | ⟨a, b⟩ | ⟨a, b⟩ | ⟨a, b⟩ | ⟨a, b⟩ | ⟨a, b⟩ | ⟨a, b0, b1, b2, b3, b4, b5, b6⟩
  · exact Or.inl ⟨((3529140, lit 88, 0), [115, 104, 101, 100]), by simp [swC2], by rw [b, v4], by rw [a]; dsimp only; decide⟩
  · exact Or.inl ⟨((3208383, lit 90, 1), [104, 111, 108, 100]), by simp [swC2], by rw [b, v2], by rw [a]; dsimp only; decide⟩
  · exact Or.inl ⟨((3642015, lit 92, 4), [119, 97, 115, 104]), by simp [swC2], by rw [b, v6], by rw [a]; dsimp only; decide⟩
  · exact Or.inl ⟨((3433489, lit 94, 5), [112, 97, 115, 115]), by simp [swC2], by rw [b, v3], by rw [a]; dsimp only; decide⟩
  · refine Or.inr ⟨fun e he => ?_, by rw [a]; decide⟩
    simp only [swC2, List.mem_cons, List.not_mem_nil, or_false] at he
    rcases he with z | z | z | z | z | z <;> subst z <;> rw [b] <;> dsimp only <;> decide
  · exact Or.inl ⟨((92903288, lit 98, 3), [97, 108, 105, 107, 101]), by simp [swC2], by rw [b, v7], by rw [a]; dsimp only; decide⟩
  · exact Or.inl ⟨((-1354814997, lit 100, 2), [99, 111, 109, 109, 111, 110]), by simp [swC2], by rw [b, v1], by rw [a]; dsimp only; decide⟩
  · refine Or.inr ⟨fun e he => ?_, by rw [a]; decide⟩
    simp only [swC2, List.mem_cons, List.not_mem_nil, or_false] at he
    rcases he with z | z | z | z | z | z <;> subst z
    · rw [v1]; exact b6
    · rw [v2]; exact b1
    · rw [v3]; exact b3
    · rw [v4]; exact b0
    · rw [v6]; exact b2
    · rw [v7]; exact b5
theorem swC_nd {lit : Nat → Nat} : ((swC1 lit).map fun e => e.1.1).Nodup ∧ ((swC2 lit).map fun e => e.1.1).Nodup := by
  constructor <;> (simp only [swC1, swC2, List.map]; decide)
theorem cq_step {τ : HP} {o tp n : Nat} {r : PR (Nat × Nat)} {β : Type} {x : Option ((Int32 × HP) ⊕ (Nat × Nat × HP))} {f : Int32 × HP → Option β} {g : Nat × Nat × HP → Option β} {Q : β → Prop} (h : wp x (CQ τ o tp n r))
    (hl : ∀ v p' t fr, r = .inr (v, p') → p' ≤ n → RdR t o tp n p' fr → Fr [o] τ t → wp (f (nI v, t)) Q)
    (hr : ∀ e a t, r = .inl e → WrR t a e.1 e.2 → Fr [o] τ t → wp (g (4, a, t)) Q) : wp (wt_bd x fun w => wt_rs w f g) Q := by
  refine wp_ap h fun out hq => ?_
  revert hq hl hr
  cases r with
  | inl e =>
    cases out with
    | inl w => intro _ _ z; exact z.elim
    | inr x =>
      rintro _ hr ⟨a, b, c⟩
      obtain ⟨c4, a', t⟩ := x
      dsimp only at a b c
      subst a
      exact hr e a' t rfl b c
  | inr vp =>
    cases out with
    | inr x => intro _ _ z; exact z.elim
    | inl w =>
      rintro hl _ ⟨a, b, ⟨fr, c⟩, d⟩
      obtain ⟨v, t⟩ := w
      dsimp only at a b c d
      subst a
      exact hl vp.1 vp.2 t fr rfl b c d
theorem cswitch' {τ : HP} {s n q : Nat} {tx : Nat → Nat} {R : List ((Int32 × Nat × Int32) × List Nat)} {i : Int32} (h : WdR τ s tx n q) (ht : ∀ k, k < n → tx k < 256)
    (hR : ∀ t, Fr [s] τ t → ∀ e, e ∈ R → SwOk t e.1 e.2) (hN : (R.map fun e => e.1.1).Nodup)
    (hi : (∃ e, e ∈ R ∧ wd tx n q = rvW e.2 ∧ e.1.2.2 = i) ∨ ((∀ e, e ∈ R → wd tx n q ≠ rvW e.2) ∧ i = -1)) : wp (eJ9_hashCode τ s) (fun r => sw r.2 s r.1 (R.map Prod.fst) = some i ∧ WdR r.2 s tx n q ∧ Fr [s] τ r.2) := by
  obtain ⟨a, g, h1, z, hS, hO, hg⟩ := h
  have hk := wk_le (tx := tx) (n := n) (q := q)
  refine wp_mono (sg_hash hS hO (by omega)) fun r ⟨r1, ⟨h', z', r2, r3⟩, r4, r5⟩ => ?_
  rw [r1]
  have hok := hR r.2 r4
  obtain ⟨k1, k2⟩ := sw_all r2 (by omega) R hok hN
  refine ⟨?_, ⟨a, g, h', z', r2, r3, hg⟩, r4⟩
  rcases hi with ⟨e, e1, e2, e3⟩ | ⟨e1, e2⟩
  · have ok := hok e e1
    rw [← e3]
    exact k1 e e1 ((same_wd ht hg ok.2.1 ok.2.2.1).mpr e2)
  · rw [e2]
    refine k2 fun e he hs => e1 e he ?_
    have ok := hok e he
    exact (same_wd ht hg ok.2.1 ok.2.2.1).mp hs
section LX
variable {t : HP} {a0 sh ho co aa ncl : Nat} {D : MSt} {al : Nat → Int32}
theorem lx_sh {g s : Nat} {v : Int32} (h : LwX t a0 sh ho co aa D al ncl) (hg : g < 8) (hs : s < 10) : ∃ fs, t.1 sh = some (.inl (0, 80, .inl fs)) ∧ hgA t a0 [1] 0 = some sh ∧ LwX (hst t sh (.inl (0, 80, .inl (upd fs (10 * g + s) v)))) a0 sh ho co aa (m_sG D 20 g s v) al ncl := by
  obtain ⟨n1, n2, n3, n4, n5, n6, n7⟩ := h.ne
  obtain ⟨fs, fh, fc, fa, h1, h2, h3, h4, h5, h6, h7, h8, h9, h10, h11⟩ := h
  refine ⟨fs, h2, hgA_of (cs := [1]) (k := 0) h1 rfl rfl, upd fs (10 * g + s) v, fh, fc, fa, (hst_ne n1).trans h1, hst_eq, (hst_ne (Ne.symm n5)).trans h3, (hst_ne (Ne.symm n6)).trans h4, (hst_ne (Ne.symm n7)).trans h5, h6, fun g' s' hg' hs' => ?_, h8, h9, h10, h11⟩
  rw [sG_at']
  show (if 10 * g' + s' = 10 * g + s then v else fs (10 * g' + s')) = _
  by_cases c : g' = g ∧ s' = s
  · rw [if_pos (by omega), if_pos c]
  · rw [if_neg (by omega), if_neg c]; exact h7 g' s' hg' hs'
theorem lx_ho {s : Nat} {v : Int32} (h : LwX t a0 sh ho co aa D al ncl) (hs : s < 10) : ∃ fs, t.1 ho = some (.inl (0, 10, .inl fs)) ∧ hgA t a0 [1] 1 = some ho ∧ LwX (hst t ho (.inl (0, 10, .inl (upd fs s v)))) a0 sh ho co aa (m_sA D 21 s v) al ncl := by
  obtain ⟨n1, n2, n3, n4, n5, n6, n7⟩ := h.ne
  obtain ⟨fs, fh, fc, fa, h1, h2, h3, h4, h5, h6, h7, h8, h9, h10, h11⟩ := h
  refine ⟨fh, h3, hgA_of (cs := [1]) (k := 1) h1 rfl rfl, fs, upd fh s v, fc, fa, (hst_ne n2).trans h1, (hst_ne n5).trans h2, hst_eq, (hst_ne (Ne.symm h6.1)).trans h4, (hst_ne (Ne.symm h6.2.1)).trans h5, h6, h7, fun s' hs' => ?_, fun s' hs' => ?_, h10, ?_⟩
  · rw [sA_2]
    show (if s' = s then v else fh s') = _
    by_cases c : s' = s
    · rw [if_pos c, if_pos ⟨rfl, c⟩]
    · rw [if_neg c, if_neg (fun z => c z.2)]; exact h8 s' hs'
  · rw [sA_2, if_neg (by omega)]; exact h9 s' hs'
  · have e : (m_sA D 21 s v).2.1 23 = D.2.1 23 := funext fun i => by rw [sA_2, if_neg (by omega)]
    rw [e]; exact h11
theorem lx_co {s : Nat} {v : Int32} (h : LwX t a0 sh ho co aa D al ncl) (hs : s < 10) : ∃ fs, t.1 co = some (.inl (0, 10, .inl fs)) ∧ hgA t a0 [1] 2 = some co ∧ LwX (hst t co (.inl (0, 10, .inl (upd fs s v)))) a0 sh ho co aa (m_sA D 22 s v) al ncl := by
  obtain ⟨n1, n2, n3, n4, n5, n6, n7⟩ := h.ne
  obtain ⟨fs, fh, fc, fa, h1, h2, h3, h4, h5, h6, h7, h8, h9, h10, h11⟩ := h
  refine ⟨fc, h4, hgA_of (cs := [1]) (k := 2) h1 rfl rfl, fs, fh, upd fc s v, fa, (hst_ne n3).trans h1, (hst_ne n6).trans h2, (hst_ne h6.1).trans h3, hst_eq, (hst_ne (Ne.symm h6.2.2)).trans h5, h6, h7, fun s' hs' => ?_, fun s' hs' => ?_, h10, ?_⟩
  · rw [sA_2, if_neg (by omega)]; exact h8 s' hs'
  · rw [sA_2]
    show (if s' = s then v else fc s') = _
    by_cases c : s' = s
    · rw [if_pos c, if_pos ⟨rfl, c⟩]
    · rw [if_neg c, if_neg (fun z => c z.2)]; exact h9 s' hs'
  · have e : (m_sA D 22 s v).2.1 23 = D.2.1 23 := funext fun i => by rw [sA_2, if_neg (by omega)]
    rw [e]; exact h11
/-- wash, pass, take -/
theorem lx_f {j k : Nat} {v : Int32} (h : LwX t a0 sh ho co aa D al ncl) (hj : (j = 4 ∧ k = 17) ∨ (j = 5 ∧ k = 18) ∨ (j = 6 ∧ k = 19)) : ∃ u, hp t a0 [1] j (.int v) = some u ∧ LwX u a0 sh ho co aa (m_sF D k v) al ncl ∧ Fr [a0] t u := by
  obtain ⟨n1, n2, n3, n4, n5, n6, n7⟩ := h.ne
  obtain ⟨fs, fh, fc, fa, h1, h2, h3, h4, h5, h6, h7, h8, h9, h10, h11⟩ := h
  have hlen : j < [Value.ref sh, .ref ho, .ref co, .ref aa, .int (D.1 17), .int (D.1 18), .int (D.1 19), .int (nI ncl)].length := by
    show j < 8
    omega
  refine ⟨_, hp_of (cs := [1]) (k := j) h1 rfl (by omega) hlen, ⟨fs, fh, fc, fa, ?_, (hst_ne (Ne.symm n1)).trans h2, (hst_ne (Ne.symm n2)).trans h3, (hst_ne (Ne.symm n3)).trans h4, (hst_ne (Ne.symm n4)).trans h5, h6, h7, h8, h9, h10, h11⟩, Fr.st h1 (by simp)⟩
  rw [hst_eq]
  rcases hj with ⟨e1, e2⟩ | ⟨e1, e2⟩ | ⟨e1, e2⟩ <;> subst e1 <;> subst e2 <;> simp [sF_1]
theorem lx_j {a b g : Nat} (h : LwX t a0 sh ho co aa D al ncl) (ha : a < 10) (hb : b < 10) : wp (eX2_joins t a0 (nI a) (nI b)) (fun u => LwX u a0 sh ho co aa (mEf D (5, g, a, b)) (alJ al a b) ncl ∧ Fr [aa] t u) := by
  obtain ⟨n1, n2, n3, n4, n5, n6, n7⟩ := h.ne
  obtain ⟨fs, fh, fc, fa, h1, h2, h3, h4, h5, h6, h7, h8, h9, h10, h11⟩ := h
  unfold eX2_joins
  rw [hgA_of (cs := [1]) (k := 3) h1 rfl rfl, wt_bd_s, haI_of h5, wt_bd_s, wt_ck_t (by rw [vp_nI (by omega)]; exact ha), wt_bd_s, haI_of h5, wt_bd_s, wt_ck_t (by rw [vp_nI (by omega)]; exact hb), nI_clamp (by omega), nI_clamp (by omega), wp_lt]
  dsimp only
  rw [h10 a ha, h10 b hb]
  have key : wp (wt_whC (bX2_joins_1 a0 (al a ||| al b)) ((0 : Int32), t)) (fun u => ∃ f, u = hst t aa (.inl (0, 10, .inl f)) ∧ ∀ s, s < 10 → f s = alJ al a b s) := by
    refine wp_for 10 0 (fun k v => ∃ f, v = (nI k, hst t aa (.inl (0, 10, .inl f))) ∧ ∀ s, s < 10 → f s = if s < k then alJ al a b s else al s) (by omega) ⟨fa, by rw [hst_self h5]; rfl, fun s hs => by rw [if_neg (by omega)]; exact h10 s hs⟩ ?_ ?_
    · rintro k v hk ⟨f, rfl, hf⟩
      have j1 : (hst t aa (.inl (0, 10, .inl f))).1 a0 = some (.inr (1, [.ref sh, .ref ho, .ref co, .ref aa, .int (D.1 17), .int (D.1 18), .int (D.1 19), .int (nI ncl)])) := (hst_ne n4).trans h1
      unfold bX2_joins_1
      dsimp only
      rw [wp_ite, if_neg (by rw [q_10, nI_leI (by omega) (by omega)]; omega), wp_ite]
      have hbt : (((al a ||| al b) >>> (nI k &&& 31)) &&& (1 : Int32) = 1) = (bt (al a ||| al b) k = true) := b_test (by omega)
      by_cases c : bt (al a ||| al b) k = true
      · rw [if_pos (by rw [hbt]; exact c), hgA_of (cs := [1]) (k := 3) j1 rfl rfl, wt_bd_s, haI_of hst_eq, wt_bd_s, wt_ck_t (by rw [vp_nI (by omega)]; exact hk), nI_clamp (by omega), wp_lt, wp_lt, wp_some, lpo_l, nI_1]
        dsimp only
        rw [hst_hst]
        refine ⟨_, rfl, fun s hs => ?_⟩
        show (if s = k then al a ||| al b else f s) = _
        by_cases c2 : s = k
        · rw [if_pos c2, if_pos (by omega), c2]
          unfold alJ
          rw [if_pos ⟨hk, c⟩]
        · rw [if_neg c2, hf s hs]
          by_cases c3 : s < k
          · rw [if_pos c3, if_pos (by omega)]
          · rw [if_neg c3, if_neg (by omega)]
      · rw [if_neg (by rw [hbt]; exact c), wp_lt, wp_some, lpo_l, nI_1]
        refine ⟨f, rfl, fun s hs => ?_⟩
        rw [hf s hs]
        by_cases c3 : s < k
        · rw [if_pos c3, if_pos (by omega)]
        · rw [if_neg c3]
          by_cases c4 : s = k
          · rw [if_pos (by omega)]
            unfold alJ
            rw [if_neg (fun z => c (by rw [← c4]; exact z.2))]
          · rw [if_neg (by omega)]
    · rintro v ⟨f, rfl, hf⟩
      unfold bX2_joins_1
      dsimp only
      rw [wp_ite, if_pos (by decide), wp_some, lpo_r]
      exact ⟨f, rfl, fun s hs => by rw [hf s hs, if_pos hs]⟩
  refine wp_ap key fun u ⟨f, hu, hfu⟩ => ?_
  subst hu
  rw [wp_some]
  have hE : ∀ i, (mEf D (5, g, a, b)).2.1 23 i = nrJ (D.2.1 23) a b i := by
    intro i
    show (m_sA (m_sA D 23 a (D.2.1 23 a ||| ((1 : Int32) <<< (nI b &&& 31)))) 23 b ((m_sA D 23 a (D.2.1 23 a ||| ((1 : Int32) <<< (nI b &&& 31)))).2.1 23 b ||| ((1 : Int32) <<< (nI a &&& 31)))).2.1 23 i = _
    rw [sA_2, sA_2, sA_2]
    unfold nrJ
    by_cases c1 : i = b
    · rw [if_pos ⟨rfl, c1⟩, if_pos c1]
      by_cases c2 : b = a
      · rw [if_pos ⟨rfl, c2⟩, if_pos c2]
      · rw [if_neg (fun z => c2 z.2), if_neg c2]
    · rw [if_neg (fun z => c1 z.2), if_neg c1]
      by_cases c2 : i = a
      · rw [if_pos ⟨rfl, c2⟩, if_pos c2]
      · rw [if_neg (fun z => c2 z.2), if_neg c2]
  have hO : ∀ k i, k ≠ 23 → (mEf D (5, g, a, b)).2.1 k i = D.2.1 k i := by
    intro k i hk
    show (m_sA (m_sA D 23 a (D.2.1 23 a ||| ((1 : Int32) <<< (nI b &&& 31)))) 23 b _).2.1 k i = _
    rw [sA_2, if_neg (fun z => hk z.1), sA_2, if_neg (fun z => hk z.1)]
  refine ⟨⟨fs, fh, fc, f, (hst_ne n4).trans h1, (hst_ne n7).trans h2, (hst_ne h6.2.1).trans h3, (hst_ne h6.2.2).trans h4, hst_eq, h6, h7, fun s hs => by rw [hO 21 s (by omega)]; exact h8 s hs, fun s hs => by rw [hO 22 s (by omega)]; exact h9 s hs, hfu, ?_⟩, Fr.st h5 (by simp)⟩
  exact (AL_join h11 ha hb).cong (fun i _ => hE i) (fun i _ => rfl)
end LX
/-! THE PLAIN LAW, 19: the component reads a clause -/
set_option maxRecDepth 100000
theorem pB_l {α β : Type} {e : Nat × Nat} {f : α → PR β} : pB (.inl e) f = .inl e := rfl
theorem pB_r {α β : Type} {a : α} {f : α → PR β} : pB (.inr a) f = f a := rfl
/-- a fault of the kind k is thrown, its place out of the reader's field j -/
theorem cfault2 {α : Type} {τ : HP} {o tp n p k pl j : Nat} {fr : Int32} {Q : α ⊕ (Nat × Nat × HP) → Prop} (h : RdR τ o tp n p fr) (hf : Wf τ) (hj : [Value.ref tp, .int (nI n), .int (nI p), .int fr][j]? = some (.int (nI pl)))
    (hQ : ∀ t, WrR t τ.2 k pl → Fr [] τ t → RdR t o tp n p fr → Q (.inr (4, τ.2, t))) :
    wp (wt_lt (hnew τ (.inr (4, [.null, .null, .null, .null, .null, .int 0, .int 0, .int 0]))) fun τ1 => wt_bd (hgI τ1 o [3] j) fun f => wt_bd (eX6_init τ1 τ.2 (nI k) f) fun w => wt_ck (hcl w τ.2 = some 4) <| some (.inr (4, τ.2, w) : α ⊕ (Nat × Nat × HP))) Q := by
  rw [wp_lt]
  have e : (wt_bd (hgI (hnew τ (.inr (4, [.null, .null, .null, .null, .null, .int 0, .int 0, .int 0]))) o [3] j) fun f => wt_bd (eX6_init (hnew τ (.inr (4, [.null, .null, .null, .null, .null, .int 0, .int 0, .int 0]))) τ.2 (nI k) f) fun w => wt_ck (hcl w τ.2 = some 4) <| some (.inr (4, τ.2, w) : α ⊕ (Nat × Nat × HP))) = wt_bd (wt_bd (hgI (hnew τ (.inr (4, [.null, .null, .null, .null, .null, .int 0, .int 0, .int 0]))) o [3] j) fun f => eX6_init (hnew τ (.inr (4, [.null, .null, .null, .null, .null, .int 0, .int 0, .int 0]))) τ.2 (nI k) f) fun w => wt_ck (hcl w τ.2 = some 4) <| some (.inr (4, τ.2, w) : α ⊕ (Nat × Nat × HP)) := by
    cases hgI (hnew τ (.inr (4, [.null, .null, .null, .null, .null, .int 0, .int 0, .int 0]))) o [3] j <;> rfl
  rw [e, wp_bd]
  refine cfault h hf (k := k) (j := j) (pl := pl) hj fun u k1 k2 k3 k4 => ?_
  rw [wt_ck_t k2, wp_some]
  exact hQ u k1 k3 k4
theorem tx_o {τ t : HP} {o tp n p : Nat} {fr : Int32} {tx : Nat → Nat} (hF : Fr [o] τ t) (hf : Wf τ) (h : RdR τ o tp n p fr) (ht : TxR τ tp tx) : TxR t tp tx := by
  obtain ⟨f, t1, t2⟩ := ht
  exact TxR.keep ⟨f, t1, t2⟩ hF hf (by simpa using Ne.symm (ne_rt h t1))
theorem LwX.obj {τ : HP} {a0 sh ho co aa ncl o c : Nat} {D : MSt} {al : Nat → Int32} {fs : List Value} (h : LwX τ a0 sh ho co aa D al ncl) (h' : τ.1 o = some (.inr (c, fs))) (hc : c ≠ 1) : a0 ∉ [o] ∧ sh ∉ [o] ∧ ho ∉ [o] ∧ co ∉ [o] ∧ aa ∉ [o] := by
  obtain ⟨f1, fh, fc, fa, h1, h2, h3, h4, h5, -⟩ := h
  have na : ∀ {x n : Nat} {f : Nat → Int32}, τ.1 x = some (.inl (0, n, .inl f)) → x ∉ [o] := fun {x n f} q z => by
    have z2 : x = o := by simpa using z
    rw [z2, h'] at q
    simp at q
  refine ⟨fun z => ?_, na h2, na h3, na h4, na h5⟩
  have z2 : a0 = o := by simpa using z
  rw [z2, h'] at h1
  injection h1 with h1
  injection h1 with h1
  exact hc (congrArg Prod.fst h1)
theorem LwX.ncl {τ : HP} {a0 sh ho co aa ncl : Nat} {D : MSt} {al : Nat → Int32} (h : LwX τ a0 sh ho co aa D al ncl) : hgI τ a0 [1] 7 = some (nI ncl) ∧ hcl τ a0 = some 1 ∧ hgA τ a0 [1] 0 = some sh ∧ hgA τ a0 [1] 1 = some ho ∧ hgA τ a0 [1] 2 = some co := by
  obtain ⟨f1, fh, fc, fa, h1, -⟩ := h
  exact ⟨hgI_of (cs := [1]) (k := 7) h1 rfl rfl, hcl_of h1, hgA_of (cs := [1]) (k := 0) h1 rfl rfl, hgA_of (cs := [1]) (k := 1) h1 rfl rfl, hgA_of (cs := [1]) (k := 2) h1 rfl rfl⟩
theorem rd_set {τ : HP} {o tp n q q' : Nat} {fr : Int32} (h : RdR τ o tp n q fr) : ∃ t, hp τ o [3] 2 (.int (nI q')) = some t ∧ RdR t o tp n q' fr ∧ Fr [o] τ t := ⟨_, hp_of (cs := [3]) (k := 2) h rfl (by omega) (by simp), hst_eq, fr_o h⟩
theorem kI_chain {β : Type} {X Y : Option β} {w : Nat} (h : w < 7) : (if kI w 7 = (0 : Int32) then X else if kI w 7 = (1 : Int32) then X else if kI w 7 = (2 : Int32) then X else if kI w 7 = (3 : Int32) then X else if kI w 7 = (4 : Int32) then X else if kI w 7 = (5 : Int32) then X else if kI w 7 = (6 : Int32) then X else Y) = X := by
  match w, h with
  | 0, _ => rw [if_pos (by decide)]
  | 1, _ => rw [if_neg (by decide), if_pos (by decide)]
  | 2, _ => rw [if_neg (by decide), if_neg (by decide), if_pos (by decide)]
  | 3, _ => rw [if_neg (by decide), if_neg (by decide), if_neg (by decide), if_pos (by decide)]
  | 4, _ => rw [if_neg (by decide), if_neg (by decide), if_neg (by decide), if_neg (by decide), if_pos (by decide)]
  | 5, _ => rw [if_neg (by decide), if_neg (by decide), if_neg (by decide), if_neg (by decide), if_neg (by decide), if_pos (by decide)]
  | 6, _ => rw [if_neg (by decide), if_neg (by decide), if_neg (by decide), if_neg (by decide), if_neg (by decide), if_neg (by decide), if_pos (by decide)]
  | k + 7, h => exact absurd h (by omega)
theorem wlen_wd {tx : Nat → Nat} {n q : Nat} : (wd tx n q).length = wlen tx n q := by
  unfold wd
  rw [wl_len]
theorem wk_sk {tx : Nat → Nat} {n q : Nat} (hq : q ≤ n) (h : (wd tx n q).length ≤ 6) : q + wk tx n q = skL tx n q ∧ skL tx n q ≤ n := by
  have h1 := skL_le (tx := tx) hq
  rw [wlen_wd] at h
  unfold wk
  rw [if_pos (by omega)]
  unfold wlen
  omega
section CL
variable {τ : HP} {o tp n a0 sh ho co aa ncl : Nat} {D : MSt} {al : Nat → Int32} {tx : Nat → Nat}
/-- while a clause is read -/
def StC (τ : HP) (o tp n a0 sh ho co aa ncl : Nat) (D : MSt) (al : Nat → Int32) (tx : Nat → Nat) (t : HP) (p : Nat) : Prop := Wf t ∧ (∃ fr, RdR t o tp n p fr) ∧ TxR t tp tx ∧ LwX t a0 sh ho co aa D al ncl ∧ Fr [o] τ t ∧ p ≤ n
theorem StC.go {t u : HP} {p p' : Nat} {fr : Int32} (h : StC τ o tp n a0 sh ho co aa ncl D al tx t p) (hF : Fr [o] t u) (hR : RdR u o tp n p' fr) (hp : p' ≤ n) : StC τ o tp n a0 sh ho co aa ncl D al tx u p' := by
  obtain ⟨h1, ⟨fr0, h2⟩, h3, h4, h5, h6⟩ := h
  exact ⟨hF.1 h1, ⟨fr, hR⟩, tx_o hF h1 h2 h3, h4.keep hF h1 (h4.obj h2 (by decide)), h5.trans hF, hp⟩
theorem wid6 {τ t : HP} (h : Fr [o] τ t) : Fr [o, a0, sh, ho, co, aa] τ t := h.wide fun q hq => List.mem_cons.mpr (Or.inl (by simpa using hq))
theorem ccl_err {e : Nat × Nat} {a : Nat} {t : HP} (k0 : WrR t a e.1 e.2) (hF : Fr [o] τ t) : wp (some (.inr (4, a, t))) (CCl τ o tp n a0 sh ho co aa D ncl (.inl e)) := ⟨_, rfl, rfl, k0, wid6 hF⟩
theorem ccl_ok {t u : HP} {p x : Nat} {c : Nat × Nat × Nat × Nat} {al' : Nat → Int32} (hS : StC τ o tp n a0 sh ho co aa ncl D al tx u p) (hF : Fr [x] u t) (hx : x ∈ [a0, sh, ho, co, aa]) (hX : LwX t a0 sh ho co aa (mEf D c) al' ncl) : wp (some (.inl t)) (CCl τ o tp n a0 sh ho co aa D ncl (.inr (p, c))) := by
  obtain ⟨h1, ⟨fr, h2⟩, h3, h4, h5, h6⟩ := hS
  have hn := h4.obj h2 (by decide)
  have hox : o ∉ [x] := fun z => by
    have z2 : o = x := by simpa using z
    rw [← z2] at hx
    simp only [List.mem_cons, List.not_mem_nil, or_false] at hx hn
    obtain ⟨n1, n2, n3, n4, n5⟩ := hn
    rcases hx with y | y | y | y | y
    · exact n1 y.symm
    · exact n2 y.symm
    · exact n3 y.symm
    · exact n4 y.symm
    · exact n5 y.symm
  refine ⟨_, rfl, h6, ⟨fr, hF.at h1 h2 hox⟩, (wid6 h5).then hF fun q hq => Or.inl ?_, al', hX⟩
  have z2 : q = x := by simpa using hq
  rw [z2]
  exact List.mem_cons_of_mem _ hx
theorem cl_num {t : HP} {lo hi p : Nat} {f : Int32 × HP → Option (HP ⊕ (Nat × Nat × HP))} {k : Nat × Nat → PR (Nat × Nat × Nat × Nat × Nat)} (hS : StC τ o tp n a0 sh ho co aa ncl D al tx t p) (hn : n ≤ 400) (hlo : lo ≤ 999) (hhi : hi ≤ 999)
    (hk : ∀ v p' u, StC τ o tp n a0 sh ho co aa ncl D al tx u p' → lo ≤ v → v ≤ hi → wp (f (nI v, u)) (CCl τ o tp n a0 sh ho co aa D ncl (k (v, p')))) :
    wp (wt_ck (hcl t o = some 3) <| wt_bd (eX5_number t o (nI lo) (nI hi)) fun w => wt_rs w f (fun x_ => some (.inr x_))) (CCl τ o tp n a0 sh ho co aa D ncl (pB (pNum tx n lo hi none p) k)) := by
  have hS' := hS
  obtain ⟨h1, ⟨fr, h2⟩, h3, h4, h5, h6⟩ := hS'
  rw [wt_ck_t (hcl_of h2)]
  refine cq_step (cnumber h1 h2 h3 hn h6 hlo hhi) (fun v p' u fr' e0 l0 R0 G0 => ?_) (fun e a u e0 k0 G0 => ?_)
  · have hv := pNum_ok h6 e0
    rw [e0, pB_r]
    exact hk v p' u (hS.go G0 R0 l0) hv.1 hv.2.1
  · rw [e0, pB_l]
    exact ccl_err k0 (h5.trans G0)
theorem cl_oth {t : HP} {p s : Nat} {f : Int32 × HP → Option (HP ⊕ (Nat × Nat × HP))} {k : Nat × Nat → PR (Nat × Nat × Nat × Nat × Nat)} (hS : StC τ o tp n a0 sh ho co aa ncl D al tx t p) (hn : n ≤ 400) (hs : s ≤ 999)
    (hk : ∀ v p' u, StC τ o tp n a0 sh ho co aa ncl D al tx u p' → v ≤ 9 → wp (f (nI v, u)) (CCl τ o tp n a0 sh ho co aa D ncl (k (v, p')))) :
    wp (wt_ck (hcl t o = some 3) <| wt_bd (eX5_other t o (nI s) (10 : Int32)) fun w => wt_rs w f (fun x_ => some (.inr x_))) (CCl τ o tp n a0 sh ho co aa D ncl (pB (pNum tx n 0 9 (some s) p) k)) := by
  have hS' := hS
  obtain ⟨h1, ⟨fr, h2⟩, h3, h4, h5, h6⟩ := hS'
  rw [wt_ck_t (hcl_of h2)]
  refine cq_step (cother h1 h2 h3 hn h6 hs) (fun v p' u fr' e0 l0 R0 G0 => ?_) (fun e a u e0 k0 G0 => ?_)
  · have hv := pNum_ok h6 e0
    rw [e0, pB_r]
    exact hk v p' u (hS.go G0 R0 l0) hv.2.1
  · rw [e0, pB_l]
    exact ccl_err k0 (h5.trans G0)
set_option maxHeartbeats 2000000 in
theorem cclause {lit : Nat → Nat} {p : Nat} {fr : Int32} (hf : Wf τ) (h : RdR τ o tp n p fr) (ht : TxR τ tp tx) (hn : n ≤ 400) (hp : p ≤ n) (hL : Lits τ lit) (hX : LwX τ a0 sh ho co aa D al ncl) (hc : ncl ≤ 24) : wp (eX5_clause lit τ o a0) (CCl τ o tp n a0 sh ho co aa D ncl (pCl0 tx n ncl p)) := by
  obtain ⟨hq1, hq2⟩ := skB_le (tx := tx) hp
  have ht2 : ∀ k, k < n → tx k < 256 := by
    obtain ⟨f, t1, t2⟩ := ht
    exact fun k hk => (t2 k (by omega)).2
  unfold eX5_clause pCl0
  rw [wt_ck_t (hcl_of h)]
  refine wp_ap (cword hf h ht hn hp) fun w2 ⟨a, g, b1, b2, b3, b4, b5, b6⟩ => ?_
  dsimp only
  generalize skB tx n p = q at hq1 hq2 b3 b4 b5 ⊢
  have hwd : WdR w2.2 w2.1 tx n q := ⟨a, g, 0, 0, b3, Or.inl ⟨rfl, rfl⟩, b4⟩
  have hf2 := b6.1 hf
  have hL2 := hL.keep b6 hf (NoL.obj h (by decide) NoL.nil)
  have hlo : o < τ.2 := hf o _ h
  have hos : o ≠ w2.1 := by omega
  rw [wt_ck_t (hcl_of b3.1)]
  refine wp_ap (cswitch' hwd ht2 (fun t hF e he => swC1_ok (hL2.keep hF hf2 (NoL.obj b3.1 (by decide) NoL.nil)) e he) swC_nd.1 swC1_i) fun w5 ⟨e1, e2, e3⟩ => ?_
  have F5 : Fr [o] τ w5.2 := b6.then e3 fun z hz => Or.inr (by
    have : z = w2.1 := by simpa using hz
    omega)
  have hf5 := F5.1 hf
  have R5 : RdR w5.2 o tp n q fr := e3.at hf2 b5 (by simpa using hos)
  have X5 := hX.keep F5 hf (hX.obj h (by decide))
  refine wp_ap (x := sw w5.2 w2.1 w5.1 ((swC1 lit).map Prod.fst)) (P := fun j => j = kI (cKind (wd tx n q)) 7) ⟨_, e1, rfl⟩ fun w7 e7 => ?_
  subst e7
  by_cases c7 : cKind (wd tx n q) = 7
  · rw [c7, show kI 7 7 = (-1 : Int32) from rfl, if_neg (by decide), if_neg (by decide), if_neg (by decide), if_neg (by decide), if_neg (by decide), if_neg (by decide), if_neg (by decide), if_pos rfl, wp_bd, wt_ck_t (hcl_of R5)]
    refine wp_ap (cwrong R5 hf5) fun r ⟨r1, r2, r3, r4, r5⟩ => ?_
    rw [r1, wt_ck_t r3, wp_some, rs_r]
    exact ccl_err r2 (F5.then r4 fun z hz => by simp at hz)
  · have hlt : cKind (wd tx n q) < 7 ∧ (wd tx n q).length ≤ 6 := by
      rcases cK_cases (W := wd tx n q) with ⟨x, y⟩ | ⟨x, y⟩ | ⟨x, y⟩ | ⟨x, y⟩ | ⟨x, y⟩ | ⟨x, y⟩ | ⟨x, y⟩ | ⟨x, -⟩
      all_goals first
        | exact absurd x c7
        | (refine ⟨by omega, ?_⟩; rw [y]; decide)
    obtain ⟨hsk, hsn⟩ := wk_sk hq2 hlt.2
    rw [kI_chain hlt.1, wt_bd_s, rs_l, X5.ncl.1, wt_bd_s, if_neg c7]
    by_cases c24 : ncl = 24
    · rw [if_pos (show nI ncl = (24 : Int32) by rw [c24]; rfl), if_pos c24]
      exact cfault2 (k := 3) (j := 2) (pl := q) R5 hf5 rfl fun u k1 k2 k3 => ⟨rfl, k1, wid6 (F5.then k2 fun z hz => by simp at hz)⟩
    · have e2' := e2
      obtain ⟨a5, g5, h5, z5, s5, -, -⟩ := e2'
      have hk7 := wk_le (tx := tx) (n := n) (q := q)
      rw [if_neg (show ¬ nI ncl = (24 : Int32) from fun z => c24 ((nI_eq (by omega) (by omega)).mp (z.trans (show (24 : Int32) = nI 24 from rfl)))), if_neg c24, hgI_of (cs := [3]) (k := 2) R5 rfl rfl, wt_bd_s, wt_ck_t (hcl_of s5.1), sg_len s5 (by omega), wt_bd_s]
      obtain ⟨t7, p1, R7, p3⟩ := rd_set (q' := skL tx n q) R5
      rw [nI_add, hsk, p1, wt_bd_s]
      have F7 : Fr [o] τ t7 := F5.trans p3
      have hf7 := F7.1 hf
      have R5' : w5.2.1 o = some (.inr (3, [.ref tp, .int (nI n), .int (nI q), .int fr])) := R5
      have W7 : WdR t7 w2.1 tx n q := e2.keep p3 hf5 (fun w hw => by
        have hwo : w = o := by simpa using hw
        rw [hwo]
        exact ⟨fun n' f hx => by rw [R5'] at hx; simp at hx, fun fs hx => by rw [R5'] at hx; simp at hx⟩)
      have W7' := W7
      obtain ⟨a7, g7, h7, z7, s7, -, -⟩ := W7'
      rw [wt_ck_t (hcl_of s7.1)]
      refine wp_ap (cswitch' W7 ht2 (fun t hF e he => swC2_ok ((hL.keep F7 hf (NoL.obj h (by decide) NoL.nil)).keep hF hf7 (NoL.obj s7.1 (by decide) NoL.nil)) e he) swC_nd.2 swC2_i) fun w8 ⟨i1, i2, i3⟩ => ?_
      have F8 : Fr [o] τ w8.2 := F7.then i3 fun z hz => Or.inr (by
        have : z = w2.1 := by simpa using hz
        omega)
      have R8 : RdR w8.2 o tp n (skL tx n q) fr := i3.at hf7 R7 (by simpa using hos)
      have S8 : StC τ o tp n a0 sh ho co aa ncl D al tx w8.2 (skL tx n q) := ⟨F8.1 hf, ⟨fr, R8⟩, tx_o F8 hf h ht, hX.keep F8 hf (hX.obj h (by decide)), F8, hsn⟩
      refine wp_ap (x := sw w8.2 w2.1 w8.1 ((swC2 lit).map Prod.fst)) (P := fun j => j = ix2 (cKind (wd tx n q))) ⟨_, i1, rfl⟩ fun w9 e9 => ?_
      subst e9
      clear i1 i2 i3 W7 s7 p1 p3 R7 F7 e1 e2 e3 s5 R5' R5 X5 F5 hwd b3 b4 b5 b6
      generalize skL tx n q = r at S8 ⊢
      rcases cK_cases (W := wd tx n q) with ⟨ka, -⟩ | ⟨ka, -⟩ | ⟨ka, -⟩ | ⟨ka, -⟩ | ⟨ka, -⟩ | ⟨ka, -⟩ | ⟨ka, -⟩ | ⟨ka, -⟩
      · rw [ka, show ix2 0 = (0 : Int32) from rfl, if_pos rfl, if_pos rfl]
        refine cl_num (lo := 0) (hi := 7) S8 hn (by omega) (by omega) fun v1 p1 u1 S1 l1 m1 => ?_
        dsimp only
        rw [if_pos (by decide)]
        refine cl_num (lo := 0) (hi := 9) S1 hn (by omega) (by omega) fun v2 p2 u2 S2 l2 m2 => ?_
        dsimp only
        rw [S2.2.2.2.1.ncl.2.2.1, wt_bd_s, if_neg (by decide), if_neg (by decide), if_pos rfl]
        refine cl_num (lo := 0) (hi := 200) S2 hn (by omega) (by omega) fun v3 p3 u3 S3 l3 m3 => ?_
        dsimp only
        obtain ⟨fs, x1, x2, x3⟩ := lx_sh (g := v1) (s := v2) (v := nI v3) S3.2.2.2.1 (by omega) (by omega)
        have ei : (10 : Int32) * nI v1 + nI v2 = nI (10 * v1 + v2) := i10
        rw [haI_of x1, wt_bd_s, ei, wt_ck_t (by rw [vp_nI (by omega)]; show _ < 80; omega), nI_clamp (by omega), wp_lt]
        exact ccl_ok (x := sh) S3 (Fr.st x1 (by simp)) (by simp) x3
      · rw [ka, show ix2 1 = (1 : Int32) from rfl, if_neg (by decide), if_pos rfl, if_neg (by decide), pB_r]
        dsimp only
        rw [if_pos (by decide)]
        refine cl_num (lo := 0) (hi := 9) S8 hn (by omega) (by omega) fun v2 p2 u2 S2 l2 m2 => ?_
        dsimp only
        rw [S2.2.2.2.1.ncl.2.2.2.1, wt_bd_s, if_neg (by decide), if_neg (by decide), if_neg (by decide), if_neg (by decide), if_neg (by decide), if_neg (by decide)]
        refine cl_num (lo := 0) (hi := 16) S2 hn (by omega) (by omega) fun v3 p3 u3 S3 l3 m3 => ?_
        dsimp only
        obtain ⟨fs, x1, x2, x3⟩ := lx_ho (s := v2) (v := nI v3) S3.2.2.2.1 (by omega)
        rw [haI_of x1, wt_bd_s, wt_ck_t (by rw [vp_nI (by omega)]; show _ < 10; omega), nI_clamp (by omega), wp_lt]
        exact ccl_ok (x := ho) S3 (Fr.st x1 (by simp)) (by simp) x3
      · rw [ka, show ix2 2 = (4 : Int32) from rfl, if_neg (by decide), if_neg (by decide), if_neg (by decide), if_neg (by decide), if_pos rfl, if_neg (by decide), pB_r]
        dsimp only
        rw [if_neg (by decide), pB_r]
        dsimp only
        rw [if_neg (by decide), if_neg (by decide), if_neg (by decide), if_neg (by decide), if_neg (by decide), if_neg (by decide)]
        refine cl_num (lo := 0) (hi := 16) S8 hn (by omega) (by omega) fun v3 p3 u3 S3 l3 m3 => ?_
        dsimp only
        obtain ⟨u', y1, y2, y3⟩ := lx_f (j := 4) (k := 17) (v := nI v3) S3.2.2.2.1 (Or.inl ⟨rfl, rfl⟩)
        rw [y1, wt_bd_s]
        exact ccl_ok S3 y3 (by simp) y2
      · rw [ka, show ix2 3 = (5 : Int32) from rfl, if_neg (by decide), if_neg (by decide), if_neg (by decide), if_neg (by decide), if_neg (by decide), if_pos rfl, if_neg (by decide), pB_r]
        dsimp only
        rw [if_neg (by decide), pB_r]
        dsimp only
        rw [if_neg (by decide), if_neg (by decide), if_neg (by decide), if_pos rfl]
        refine cl_num (lo := 0) (hi := 8) S8 hn (by omega) (by omega) fun v3 p3 u3 S3 l3 m3 => ?_
        dsimp only
        obtain ⟨u', y1, y2, y3⟩ := lx_f (j := 5) (k := 18) (v := nI v3) S3.2.2.2.1 (Or.inr (Or.inl ⟨rfl, rfl⟩))
        rw [y1, wt_bd_s]
        exact ccl_ok S3 y3 (by simp) y2
      · rw [ka, show ix2 4 = (-1 : Int32) from rfl, if_neg (by decide), if_neg (by decide), if_neg (by decide), if_neg (by decide), if_neg (by decide), if_neg (by decide), if_neg (by decide), pB_r]
        dsimp only
        rw [if_neg (by decide), pB_r]
        dsimp only
        rw [if_neg (by decide), if_pos rfl, if_neg (by decide), if_neg (by decide), if_pos rfl]
        refine cl_num (lo := 1) (hi := 15) S8 hn (by omega) (by omega) fun v3 p3 u3 S3 l3 m3 => ?_
        dsimp only
        obtain ⟨u', y1, y2, y3⟩ := lx_f (j := 6) (k := 19) (v := nI v3) S3.2.2.2.1 (Or.inr (Or.inr ⟨rfl, rfl⟩))
        rw [y1, wt_bd_s]
        exact ccl_ok S3 y3 (by simp) y2
      · rw [ka, show ix2 5 = (3 : Int32) from rfl, if_neg (by decide), if_neg (by decide), if_neg (by decide), if_pos rfl, if_neg (by decide), pB_r]
        dsimp only
        rw [if_pos (by decide)]
        refine cl_num (lo := 0) (hi := 9) S8 hn (by omega) (by omega) fun v2 p2 u2 S2 l2 m2 => ?_
        dsimp only
        rw [if_pos rfl]
        refine cl_oth S2 hn (by omega) fun v3 p3 u3 S3 m3 => ?_
        dsimp only
        rw [wt_ck_t S3.2.2.2.1.ncl.2.1]
        refine wp_ap (lx_j (g := 0) (a := v2) (b := v3) S3.2.2.2.1 (by omega) (by omega)) fun u' ⟨y1, y2⟩ => ?_
        exact ccl_ok S3 y2 (by simp) y1
      · rw [ka, show ix2 6 = (2 : Int32) from rfl, if_neg (by decide), if_neg (by decide), if_pos rfl, if_neg (by decide), pB_r]
        dsimp only
        rw [if_pos (by decide)]
        refine cl_num (lo := 0) (hi := 9) S8 hn (by omega) (by omega) fun v2 p2 u2 S2 l2 m2 => ?_
        dsimp only
        rw [S2.2.2.2.1.ncl.2.2.2.2, wt_bd_s, if_neg (by decide), if_neg (by decide), if_neg (by decide), if_neg (by decide), if_neg (by decide), if_pos rfl]
        refine cl_num (lo := 0) (hi := 20) S2 hn (by omega) (by omega) fun v3 p3 u3 S3 l3 m3 => ?_
        dsimp only
        obtain ⟨fs, x1, x2, x3⟩ := lx_co (s := v2) (v := nI v3) S3.2.2.2.1 (by omega)
        rw [haI_of x1, wt_bd_s, wt_ck_t (by rw [vp_nI (by omega)]; show _ < 10; omega), nI_clamp (by omega), wp_lt]
        exact ccl_ok (x := co) S3 (Fr.st x1 (by simp)) (by simp) x3
      · exact absurd ka c7
end CL
/-! THE PLAIN LAW, 20: the component reads a law to its end -/
set_option maxRecDepth 100000
theorem wp_wh {α β : Type} {b : α → Option (α ⊕ β)} {v : α} {Q : β → Prop} (h : wp (b v) (lpo (fun v' => wp (wt_whC b v') Q) Q)) : wp (wt_whC b v) Q := by
  obtain ⟨x, h1, h2⟩ := h
  cases x with
  | inl v' =>
    obtain ⟨r, h3, h4⟩ := h2
    exact ⟨r, wt_whC_i h1 h3, h4⟩
  | inr r => exact ⟨r, wt_whC_e h1, h2⟩
section CW
variable {τ : HP} {o tp n a0 sh ho co aa : Nat} {tx : Nat → Nat}
theorem LwX.c16 {t : HP} {k : Nat} {D : MSt} {al : Nat → Int32} {v : Int32} (h : LwX t a0 sh ho co aa D al k) : LwX t a0 sh ho co aa (m_sF D 16 v) al k := h
theorem lx_n {t : HP} {k : Nat} {D : MSt} {al : Nat → Int32} (h : LwX t a0 sh ho co aa D al k) : ∃ u, hp t a0 [1] 7 (.int (nI (k + 1))) = some u ∧ LwX u a0 sh ho co aa D al (k + 1) ∧ Fr [a0] t u := by
  obtain ⟨n1, n2, n3, n4, n5, n6, n7⟩ := h.ne
  obtain ⟨fs, fh, fc, fa, h1, h2, h3, h4, h5, h6⟩ := h
  exact ⟨_, hp_of (cs := [1]) (k := 7) h1 rfl (by omega) (by show 7 < 8; omega), ⟨fs, fh, fc, fa, hst_eq, (hst_ne (Ne.symm n1)).trans h2, (hst_ne (Ne.symm n2)).trans h3, (hst_ne (Ne.symm n3)).trans h4, (hst_ne (Ne.symm n4)).trans h5, h6⟩, Fr.st h1 (by simp)⟩
theorem LwX.nol {t : HP} {k c : Nat} {D : MSt} {al : Nat → Int32} {fs : List Value} (h : LwX t a0 sh ho co aa D al k) (ho' : t.1 o = some (.inr (c, fs))) (hc : c ≠ 16) : NoL t [o, a0, sh, ho, co, aa] := by
  obtain ⟨f1, fh, fc, fa, h1, h2, h3, h4, h5, -⟩ := h
  exact NoL.obj ho' hc (NoL.obj h1 (by decide) (NoL.arr h2 (by decide) (NoL.arr h3 (by decide) (NoL.arr h4 (by decide) (NoL.arr h5 (by decide) NoL.nil)))))
theorem LwX.ntp {t : HP} {k c : Nat} {D : MSt} {al : Nat → Int32} {fs : List Value} {f : Nat → Int32} (h : LwX t a0 sh ho co aa D al k) (ho' : t.1 o = some (.inr (c, fs))) (ht : t.1 tp = some (.inl (1, 400, .inl f))) : tp ∉ [o, a0, sh, ho, co, aa] := by
  obtain ⟨f1, fh, fc, fa, h1, h2, h3, h4, h5, -⟩ := h
  intro z
  simp only [List.mem_cons, List.not_mem_nil, or_false] at z
  rcases z with z | z | z | z | z | z <;> rw [z] at ht
  · rw [ho'] at ht; simp at ht
  · rw [h1] at ht; simp at ht
  · rw [h2] at ht; simp at ht
  · rw [h3] at ht; simp at ht
  · rw [h4] at ht; simp at ht
  · rw [h5] at ht; simp at ht
/-- the outcome of all clauses in the component -/
def LcQ (τ : HP) (o a0 sh ho co aa : Nat) (D : MSt) (k : Nat) (r : PR (List (Nat × Nat × Nat × Nat))) (out : (HP × Nat × Nat) ⊕ ((Nat × HP) ⊕ (Nat × Nat × HP))) : Prop := match r, out with
  | .inr l, .inl v => (∃ al', LwX v.1 a0 sh ho co aa (mRd D l k) al' (k + l.length)) ∧ Fr [o, a0, sh, ho, co, aa] τ v.1 ∧ v.2.1 ≤ 260 ∧ v.2.2 ≤ 3000
  | .inl e, .inr (.inr x) => x.1 = 4 ∧ WrR x.2.2 x.2.1 e.1 e.2 ∧ Fr [o, a0, sh, ho, co, aa] τ x.2.2
  | _, _ => False
set_option maxHeartbeats 2000000 in
theorem claws {lit : Nat → Nat} {τ0 : HP} (ha : τ0.2 = a0) (hn : n ≤ 400) : ∀ (f k p : Nat) (D : MSt) (al : Nat → Int32) (t : HP) (fr : Int32), f + k = 25 → k ≤ 24 → Wf t → RdR t o tp n p fr → TxR t tp tx → LwX t a0 sh ho co aa D al k → Lits t lit → p ≤ n →
    wp (wt_whC (bX5_law_1 lit τ0 o) (t, 5 + 8 * k, 118 + 72 * k)) (LcQ t o a0 sh ho co aa D k (pLaw tx n f k p)) := by
  subst ha
  intro f
  induction f with
  | zero => intro k p D al t fr hk hk2; omega
  | succ f ih =>
    intro k p D al t fr hk hk2 hf h2 h3 h4 hL hp
    have h3' := h3
    obtain ⟨tf, tf1, tf2⟩ := h3'
    have hnt := h4.ntp h2 tf1
    have hnl := h4.nol h2 (by decide)
    refine wp_wh ?_
    unfold bX5_law_1 pLaw
    dsimp only
    rw [hgI_of (cs := [3]) (k := 2) h2 rfl rfl, wt_bd_s, hgI_of (cs := [3]) (k := 1) h2 rfl rfl, wt_bd_s, wp_ite]
    by_cases c : n ≤ p
    · rw [if_pos c, if_pos (by rw [nI_leI (by omega) (by omega)]; exact c), wp_some, lpo_r]
      exact ⟨⟨al, h4⟩, Fr.rfl, by show 5 + 8 * k ≤ 260; omega, by show 118 + 72 * k ≤ 3000; omega⟩
    · rw [if_neg c, if_neg (by rw [nI_leI (by omega) (by omega)]; exact c), wt_ck_t (hcl_of h2)]
      refine wp_ap (cclause hf h2 h3 hn hp hL h4 (by omega)) fun out hq => ?_
      rw [pCl_0]
      have hcl := fun c hc => (pClause_ok (tx := tx) (n := n) (ncl := k) (p := p) (c := c) hp hc)
      have h24 : k = 24 → ∃ e, pCl0 tx n k p = .inl e := fun z => by
        subst z
        unfold pCl0
        dsimp only
        by_cases c7 : cKind (wd tx n (skB tx n p)) = 7
        · exact ⟨_, by rw [if_pos c7]⟩
        · exact ⟨_, by rw [if_neg c7, if_pos rfl]⟩
      revert hq h24
      cases pCl0 tx n k p with
      | inl e =>
        cases out with
        | inl w => intro z _; exact z.elim
        | inr x =>
          rintro ⟨b1, b2, b3⟩ -
          rw [wt_ck_t (by constructor <;> omega), rs_r, wt_ck_t (by constructor <;> omega), wp_some, lpo_r]
          exact ⟨b1, b2, b3⟩
      | inr c =>
        cases out with
        | inr x => intro z _; exact z.elim
        | inl t1 =>
          rintro ⟨b1, ⟨fr1, b2⟩, b3, al1, b4⟩ h24
          have hk24 : k ≠ 24 := fun z => by
            obtain ⟨e, he⟩ := h24 z
            cases he
          rw [wt_ck_t (by constructor <;> omega), rs_l, wt_ck_t (hcl_of b2), pB_r]
          have hf1 := b3.1 hf
          have T1 : TxR t1 tp tx := h3.keep b3 hf hnt
          have L1 : Lits t1 lit := hL.keep b3 hf hnl
          refine wp_ap (cneed hf1 b2 T1 hn b1) fun out2 hq2 => ?_
          have hs2 := fun e he => pSign_ok (tx := tx) (n := n) (p := c.1) (e := e) he
          revert hq2
          cases pSign tx n c.1 with
          | inl e =>
            cases out2 with
            | inl w => intro z; exact z.elim
            | inr x =>
              rintro ⟨d1, d2, d3⟩
              rw [wt_ck_t (by constructor <;> omega), rs_r, wt_ck_t (by constructor <;> omega), wp_some, lpo_r]
              exact ⟨d1, d2, b3.then d3 fun q hq => Or.inl (List.mem_cons.mpr (Or.inl (by simpa using hq)))⟩
          | inr q =>
            cases out2 with
            | inr x => intro z; exact z.elim
            | inl t2 =>
              rintro ⟨d1, ⟨fr2, d2⟩, d3⟩
              rw [wt_ck_t (by constructor <;> omega), rs_l, pB_r]
              have hf2 := d3.1 hf1
              have X2 := b4.keep d3 hf1 (b4.obj b2 (by decide))
              obtain ⟨u, y1, y2, y3⟩ := lx_n X2
              have hf3 := y3.1 hf2
              have hoa : o ∉ [τ0.2] := fun z => (X2.obj d2 (by decide)).1 (by
                have : o = τ0.2 := by simpa using z
                rw [this]; simp)
              have R3 := y3.at hf2 d2 hoa
              have T3 : TxR u tp tx := (tx_o d3 hf1 b2 T1).keep y3 hf2 (fun z => hnt (List.mem_cons_of_mem _ (List.mem_cons.mpr (Or.inl (by simpa using z)))))
              rw [X2.ncl.1, wt_bd_s, nI_1, y1, wt_bd_s, wt_ck_t (hcl_of R3)]
              refine wp_ap (csign R3 T3 hn d1) fun r ⟨_, s2, s3, s4⟩ => ?_
              rw [wt_ck_t (by constructor <;> omega), wp_some, lpo_l]
              have F2 : Fr [o, τ0.2, sh, ho, co, aa] t t2 := b3.then d3 fun q hq => Or.inl (List.mem_cons.mpr (Or.inl (by simpa using hq)))
              have F3 : Fr [o, τ0.2, sh, ho, co, aa] t u := F2.then y3 fun q hq => Or.inl (List.mem_cons_of_mem _ (List.mem_cons.mpr (Or.inl (by simpa using hq))))
              have F4 : Fr [o, τ0.2, sh, ho, co, aa] t r.2 := F3.then s3 fun q hq => Or.inl (List.mem_cons.mpr (Or.inl (by simpa using hq)))
              have hX4 : LwX r.2 τ0.2 sh ho co aa (mEf (m_sF D 16 (nI (k + 1))) c.2) al1 (k + 1) := by
                rw [mEf_sF (by omega)]
                exact (y2.keep s3 hf3 (y2.obj R3 (by decide))).c16
              have hgo := ih (k + 1) (skB tx n q) _ al1 r.2 fr2 (by omega) (by omega) (s3.1 hf3) s2 (tx_o s3 hf3 R3 T3) hX4 (hL.keep F4 hf hnl) (skB_le d1).2
              rw [show 5 + 8 * k + 8 = 5 + 8 * (k + 1) from by omega, show 118 + 72 * k + 72 = 118 + 72 * (k + 1) from by omega]
              refine wp_mono hgo fun out3 hq3 => ?_
              show LcQ t o τ0.2 sh ho co aa D k (pB (pLaw tx n f (k + 1) (skB tx n q)) fun l => .inr (c.2 :: l)) out3
              revert hq3
              cases pLaw tx n f (k + 1) (skB tx n q) with
              | inl e =>
                cases out3 with
                | inl w => intro z; exact z
                | inr x =>
                  cases x with
                  | inl y => intro z; exact z
                  | inr y =>
                    rintro ⟨g1, g2, g3⟩
                    exact ⟨g1, g2, F4.trans g3⟩
              | inr l =>
                cases out3 with
                | inr x =>
                  cases x with
                  | inl y => intro z; exact z
                  | inr y => intro z; exact z
                | inl w =>
                  rintro ⟨⟨al', g1⟩, g2, g3, g4⟩
                  refine ⟨⟨al', ?_⟩, F4.trans g2, g3, g4⟩
                  have e : k + (c.2 :: l).length = k + 1 + l.length := by rw [List.length_cons]; omega
                  rw [e]
                  exact g1
/-- a new row of a new law -/
theorem x2_row {t : HP} {fs : List Value} {j m : Nat} (hf : Wf t) (h : t.1 a0 = some (.inr (1, fs))) (hj : j < fs.length) : ∃ u, hp (hnew t (.inl (0, m, .inl (fun _ => 0)))) a0 [1] j (.ref t.2) = some u ∧ u.1 a0 = some (.inr (1, fs.set j (.ref t.2))) ∧ u.1 t.2 = some (.inl (0, m, .inl (fun _ => 0))) ∧ u.2 = t.2 + 1 ∧ Fr [a0] t u := by
  have ha := hf a0 _ h
  have h' : (hnew t (.inl (0, m, .inl (fun _ => 0)))).1 a0 = some (.inr (1, fs)) := (hnew_ne (by omega)).trans h
  exact ⟨_, hp_of (cs := [1]) (k := j) h' rfl (by omega) hj, hst_eq, (hst_ne (by omega)).trans hnew_eq, rfl, Fr.new.trans (Fr.st h' (by simp))⟩
theorem cx2_init {τ : HP} (hf : Wf τ) (h : τ.1 a0 = some (.inr (1, [.null, .null, .null, .null, .int 0, .int 0, .int 0, .int 0]))) : wp (eX2_init τ a0) (fun u => ∃ sh ho co aa al, (τ.2 ≤ sh ∧ τ.2 ≤ ho ∧ τ.2 ≤ co ∧ τ.2 ≤ aa) ∧ LwX u a0 sh ho co aa mZ al 0 ∧ Fr [a0] τ u) := by
  have hz := hf a0 _ h
  unfold eX2_init
  rw [wp_lt]
  obtain ⟨u1, a1, a2, a3, a4, a5⟩ := x2_row (j := 0) (m := 80) hf h (by decide)
  rw [a1, wt_bd_s, wp_lt]
  have f1 := a5.1 hf
  obtain ⟨u2, b1, b2, b3, b4, b5⟩ := x2_row (j := 1) (m := 10) f1 a2 (by simp)
  rw [b1, wt_bd_s, wp_lt]
  have f2 := b5.1 f1
  obtain ⟨u3, c1, c2, c3, c4, c5⟩ := x2_row (j := 2) (m := 10) f2 b2 (by simp)
  rw [c1, wt_bd_s, wp_lt]
  have f3 := c5.1 f2
  obtain ⟨u4, d1, d2, d3, d4, d5⟩ := x2_row (j := 3) (m := 10) f3 c2 (by simp)
  rw [d1, wt_bd_s, hp_of (cs := [1]) (k := 6) d2 rfl (by omega) (by simp), wt_bd_s]
  have f4 := d5.1 f3
  have n1 : τ.2 ≠ a0 := by omega
  have n2 : u1.2 ≠ a0 := by omega
  have n3 : u2.2 ≠ a0 := by omega
  have n4 : u3.2 ≠ a0 := by omega
  have F5 : Fr [a0] u4 (hst u4 a0 (.inr (1, ((((([.null, .null, .null, .null, .int 0, .int 0, .int 0, .int 0] : List Value).set 0 (.ref τ.2)).set 1 (.ref u1.2)).set 2 (.ref u2.2)).set 3 (.ref u3.2)).set 6 (.int 8)))) := Fr.st d2 (by simp)
  have e0 : (hst u4 a0 (.inr (1, ((((([.null, .null, .null, .null, .int 0, .int 0, .int 0, .int 0] : List Value).set 0 (.ref τ.2)).set 1 (.ref u1.2)).set 2 (.ref u2.2)).set 3 (.ref u3.2)).set 6 (.int 8)))).1 a0 = some (.inr (1, [.ref τ.2, .ref u1.2, .ref u2.2, .ref u3.2, .int 0, .int 0, .int 8, .int 0])) := hst_eq
  generalize hst u4 a0 (.inr (1, ((((([.null, .null, .null, .null, .int 0, .int 0, .int 0, .int 0] : List Value).set 0 (.ref τ.2)).set 1 (.ref u1.2)).set 2 (.ref u2.2)).set 3 (.ref u3.2)).set 6 (.int 8))) = u5 at F5 e0 ⊢
  have f5 := F5.1 f4
  have r4 := F5.at f4 d3 (by simpa using n4)
  have r3 := F5.at f4 (d5.at f3 c3 (by simpa using n3)) (by simpa using n3)
  have r2 := F5.at f4 (d5.at f3 (c5.at f2 b3 (by simpa using n2)) (by simpa using n2)) (by simpa using n2)
  have r1 := F5.at f4 (d5.at f3 (c5.at f2 (b5.at f1 a3 (by simpa using n1)) (by simpa using n1)) (by simpa using n1)) (by simpa using n1)
  have FT : Fr [a0] τ u5 := (((a5.trans b5).trans c5).trans d5).trans F5
  have key : wp (wt_whC (bX2_init_1 a0) ((0 : Int32), u5)) (fun u => ∃ fh fa, u.1 a0 = some (.inr (1, [.ref τ.2, .ref u1.2, .ref u2.2, .ref u3.2, .int 0, .int 0, .int 8, .int 0])) ∧ u.1 τ.2 = some (.inl (0, 80, .inl (fun _ => 0))) ∧ u.1 u1.2 = some (.inl (0, 10, .inl fh)) ∧ u.1 u2.2 = some (.inl (0, 10, .inl (fun _ => 0))) ∧ u.1 u3.2 = some (.inl (0, 10, .inl fa)) ∧ (∀ s, s < 10 → fh s = 16 ∧ fa s = (1 : Int32) <<< (nI s &&& 31)) ∧ Fr [u1.2, u3.2] u5 u) := by
    refine wp_for 10 0 (fun k v => ∃ fh fa u, v = (nI k, u) ∧ u.1 a0 = some (.inr (1, [.ref τ.2, .ref u1.2, .ref u2.2, .ref u3.2, .int 0, .int 0, .int 8, .int 0])) ∧ u.1 τ.2 = some (.inl (0, 80, .inl (fun _ => 0))) ∧ u.1 u1.2 = some (.inl (0, 10, .inl fh)) ∧ u.1 u2.2 = some (.inl (0, 10, .inl (fun _ => 0))) ∧ u.1 u3.2 = some (.inl (0, 10, .inl fa)) ∧ (∀ s, s < k → fh s = 16 ∧ fa s = (1 : Int32) <<< (nI s &&& 31)) ∧ Fr [u1.2, u3.2] u5 u) (by omega) ⟨_, _, u5, rfl, e0, r1, r2, r3, r4, fun s hs => by omega, Fr.rfl⟩ ?_ ?_
    · rintro k v hk ⟨fh, fa, u, rfl, g1, g2, g3, g4, g5, g6, g7⟩
      unfold bX2_init_1
      dsimp only
      have q1 : (hst u u1.2 (.inl (0, 10, .inl (upd fh k (16 : Int32))))).1 a0 = some (.inr (1, [.ref τ.2, .ref u1.2, .ref u2.2, .ref u3.2, .int 0, .int 0, .int 8, .int 0])) := (hst_ne (by omega)).trans g1
      have q5 : (hst u u1.2 (.inl (0, 10, .inl (upd fh k (16 : Int32))))).1 u3.2 = some (.inl (0, 10, .inl fa)) := (hst_ne (by omega)).trans g5
      rw [wp_ite, if_neg (by rw [q_10, nI_leI (by omega) (by omega)]; omega), hgA_of (cs := [1]) (k := 1) g1 rfl rfl, wt_bd_s, haI_of g3, wt_bd_s, wt_ck_t (by rw [vp_nI (by omega)]; exact hk), nI_clamp (by omega), wp_lt, hgA_of (cs := [1]) (k := 3) q1 rfl rfl, wt_bd_s, haI_of q5, wt_bd_s, wt_ck_t (by rw [vp_nI (by omega)]; exact hk), wp_lt, wp_lt, wp_some, lpo_l, nI_1]
      refine ⟨upd fh k 16, upd fa k ((1 : Int32) <<< (nI k &&& 31)), _, rfl, (hst_ne (by omega)).trans q1, (hst_ne (by omega)).trans ((hst_ne (by omega)).trans g2), (hst_ne (by omega)).trans hst_eq, (hst_ne (by omega)).trans ((hst_ne (by omega)).trans g4), hst_eq, fun s hs => ?_, (g7.trans (Fr.st g3 (by simp))).trans (Fr.st q5 (by simp))⟩
      show (if s = k then (16 : Int32) else fh s) = 16 ∧ (if s = k then (1 : Int32) <<< (nI k &&& 31) else fa s) = _
      by_cases c : s = k
      · rw [if_pos c, if_pos c, c]; exact ⟨rfl, rfl⟩
      · rw [if_neg c, if_neg c]; exact g6 s (by omega)
    · rintro v ⟨fh, fa, u, rfl, g⟩
      unfold bX2_init_1
      dsimp only
      rw [wp_ite, if_pos (by decide), wp_some, lpo_r]
      exact ⟨fh, fa, g⟩
  refine wp_ap key fun u ⟨fh, fa, g1, g2, g3, g4, g5, g6, g7⟩ => ?_
  rw [wp_some]
  refine ⟨τ.2, u1.2, u2.2, u3.2, fa, by omega, ⟨_, fh, _, fa, g1, g2, g3, g4, g5, by omega, fun _ _ _ _ => rfl, fun s hs => (g6 s hs).1, fun _ _ => rfl, fun _ _ => rfl, ?_⟩, FT.then g7 fun q hq => Or.inr ?_⟩
  · exact AL_new.cong (fun i _ => rfl) (fun i hi => (g6 i hi).2)
  · have : q = u1.2 ∨ q = u3.2 := by simpa using hq
    omega
end CW
/-- the outcome of a law in the component -/
def LmQ (τ : HP) (o : Nat) (r : PR (List (Nat × Nat × Nat × Nat))) (out : (Nat × HP) ⊕ (Nat × Nat × HP)) : Prop := match r, out with
  | .inr l, .inl v => (∃ sh ho co aa al, (τ.2 ≤ sh ∧ τ.2 ≤ ho ∧ τ.2 ≤ co ∧ τ.2 ≤ aa ∧ τ.2 ≤ v.1) ∧ LwX v.2 v.1 sh ho co aa (mRd mZ l 0) al l.length) ∧ Fr [o] τ v.2
  | .inl e, .inr x => x.1 = 4 ∧ WrR x.2.2 x.2.1 e.1 e.2 ∧ Fr [o] τ x.2.2
  | _, _ => False
theorem claw {lit : Nat → Nat} {τ : HP} {o tp n : Nat} {fr : Int32} {tx : Nat → Nat} (hf : Wf τ) (h : RdR τ o tp n 0 fr) (ht : TxR τ tp tx) (hn : n ≤ 400) (hL : Lits τ lit) : wp (eX5_law lit τ o) (LmQ τ o (pLaw tx n 25 0 (skB tx n 0))) := by
  have hlo := hf o _ h
  unfold eX5_law
  rw [wp_lt]
  have f1 : Wf (hnew τ (.inr (1, [.null, .null, .null, .null, .int 0, .int 0, .int 0, .int 0]))) := hf.new
  have F1 : Fr [] τ (hnew τ (.inr (1, [.null, .null, .null, .null, .int 0, .int 0, .int 0, .int 0]))) := Fr.new
  have e1 : (hnew τ (.inr (1, [.null, .null, .null, .null, .int 0, .int 0, .int 0, .int 0]))).1 τ.2 = some (.inr (1, [.null, .null, .null, .null, .int 0, .int 0, .int 0, .int 0])) := hnew_eq
  have z1 : (hnew τ (.inr (1, [.null, .null, .null, .null, .int 0, .int 0, .int 0, .int 0]))).2 = τ.2 + 1 := rfl
  generalize hnew τ (.inr (1, [.null, .null, .null, .null, .int 0, .int 0, .int 0, .int 0])) = t1 at f1 F1 e1 z1 ⊢
  refine wp_ap (cx2_init f1 e1) fun t2 ⟨sh, ho, co, aa, al, hge, hX, F2⟩ => ?_
  have F12 : Fr [] τ t2 := F1.then F2 fun q hq => Or.inr (by
    have : q = τ.2 := by simpa using hq
    omega)
  have f2 := F12.1 hf
  have R2 := F12.at hf h (by simp)
  have T2 : TxR t2 tp tx := ht.keep F12 hf (by simp)
  rw [wt_ck_t (hcl_of R2)]
  refine wp_ap (csign R2 T2 hn (by omega)) fun r ⟨_, s2, s3, s4⟩ => ?_
  have f3 := s3.1 f2
  have F3 : Fr [o] τ r.2 := (F12.wide (by simp)).trans s3
  have T3 := tx_o s3 f2 R2 T2
  have X3 := hX.keep s3 f2 (hX.obj R2 (by decide))
  have L3 : Lits r.2 lit := hL.keep F3 hf (NoL.obj h (by decide) NoL.nil)
  refine wp_ap (claws (lit := lit) (τ0 := τ) rfl hn 25 0 (skB tx n 0) mZ al r.2 fr (by omega) (by omega) f3 s2 T3 X3 L3 (skB_le (by omega)).2) fun out hq => ?_
  have hw : ∀ q, q ∈ [o, τ.2, sh, ho, co, aa] → q ∈ [o] ∨ τ.2 ≤ q := fun q hq => by
    simp only [List.mem_cons, List.not_mem_nil, or_false] at hq ⊢
    rcases hq with z | z | z | z | z | z
    · exact Or.inl z
    all_goals exact Or.inr (by omega)
  revert hq
  cases pLaw tx n 25 0 (skB tx n 0) with
  | inl e =>
    cases out with
    | inl w => intro z; exact z.elim
    | inr x =>
      cases x with
      | inl y => intro z; exact z.elim
      | inr y =>
        rintro ⟨g1, g2, g3⟩
        rw [rs_r, wp_some]
        exact ⟨g1, g2, F3.then g3 hw⟩
  | inr l =>
    cases out with
    | inr x =>
      cases x with
      | inl y => intro z; exact z.elim
      | inr y => intro z; exact z.elim
    | inl w =>
      rintro ⟨⟨al', g1⟩, g2, g3, g4⟩
      rw [rs_l, wt_ck_t ⟨g3, g4⟩, wp_some]
      rw [Nat.zero_add] at g1
      exact ⟨⟨sh, ho, co, aa, al', by show _ ∧ _ ∧ _ ∧ _ ∧ τ.2 ≤ τ.2; omega, g1⟩, F3.then g2 hw⟩
