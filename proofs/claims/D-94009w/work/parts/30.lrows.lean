/-! THE LAW'S LEVEL: the component's heap and the model's world, side by side in one heap -/
set_option maxRecDepth 100000
/-- what the law may write; what the component may write, when the model lies in [lo, hi) -/
def lA0 (s : State) : Nat → Prop := fun q => s.heap.size ≤ q
def lA1 (s : State) (lo hi : Nat) : Nat → Prop := fun q => s.heap.size ≤ q ∧ ¬ (lo ≤ q ∧ q < hi)
theorem Hz.narrow {A B : Nat → Prop} {U : State} {H : Heap} (h : Hz A U H) (hAB : ∀ q, B q → A q) : Hz B U H := ⟨h.1.narrow hAB, h.2.1.narrow hAB, h.2.2.narrow hAB⟩
section LL
variable {s U : State} {H H1 : Heap} {locs : List Loc} {G : HG} {τ : HP} {lo hi : Nat} {As : List Value}
theorem hl_call (hW : s.WarmedH U.vm) (hU : U.heap = H) (hS : va_S (lA0 s) s.heap H locs) (hhi : hi ≤ H.size) (h : Hcx G (lA0 s) s) : Hcx G (lA1 s lo hi) U :=
  ⟨h.1.moved hW.alike, h.2.1.warm hW, h.2.2.1.warm hW, h.2.2.2.1.moved hW.alike, by rw [hU]; exact ((h.2.2.2.2.1.kept hS.2.1).narrow fun q hq => hq.1).moved hW.alike,
    fun q hq => ⟨by rw [hU] at hq; exact Nat.le_trans hS.1 hq, by rw [hU] at hq; omega⟩⟩
theorem hl_preS (hC : Hcx G (lA0 s) s) (hW : Hw G (lA1 s lo hi) τ H) (hS : va_S (lA0 s) s.heap H locs) (hhi : hi ≤ H.size) : PreS s H (hPc G (lA1 s lo hi) τ As) As := ⟨hPc_blind, fun U hU hW' => ⟨rfl, by rw [hU]; exact hW, hl_call hW' hU hS hhi hC⟩⟩
theorem hl_preV {C : String} {b ci : Nat} {r : vw_C} (hC : Hcx G (lA0 s) s) (hW : Hw G (lA1 s lo hi) τ H) (hS : va_S (lA0 s) s.heap H locs) (hhi : hi ≤ H.size) (h : hcl τ b = some ci) (hr : clw[ci]? = some r) (he : r.1 = C) : PreV s H C b (hPc G (lA1 s lo hi) τ (.ref b :: As)) As := by
  obtain ⟨fs, h1⟩ := hcl_o h
  exact ⟨hPc_blind, he ▸ hr_recv hC.1 hW h1 hr, fun U hU hW' => ⟨rfl, by rw [hU]; exact hW, hl_call hW' hU hS hhi hC⟩⟩
/-- the model's world stands while the component works -/
theorem hl_mW {b : Nat} {σ : MSt} (h : mW (mX G b) σ H) (hz : H.size ≤ H1.size) (hlo : b + 239 ≤ H.size) (hk : ∀ q : Nat, q < H.size → ¬ lA1 s b (b + 239) q → H1[q]? = H[q]?) : mW (mX G b) σ H1 := by
  have hJ := mX_J G b
  have o : ∀ q : Nat, b ≤ q ∧ q < b + 239 → H1[q]? = H[q]? := fun q hq => hk q (by omega) fun z => z.2 hq
  obtain ⟨h1, h2, h3, h4⟩ := h
  refine ⟨h1.kept (o _ hJ.1), fun k hk => (o _ (hJ.2.1 k (by omega)).1).trans (h2 k hk), fun k hk => (o _ (hJ.2.1 k (by omega)).1).trans (h3 k hk), fun k i hi => (o _ (hJ.2.2.1 k i hi).1).trans (h4 k i hi)⟩
/-- the component's heap stands while the model works (the model's contracts do not say that nothing is made: the next address is free) -/
theorem hl_Hw {A : Nat → Prop} (h : Hw G A τ H) (hne : ∀ q x, τ.1 q = some x → ¬ (lo ≤ q ∧ q < hi)) (hk : ∀ q : Nat, q < H.size → ¬ mA lo hi q → H1[q]? = H[q]?) : Hw G A (τ.1, H1.size) H1 :=
  ⟨rfl, fun q x hx => ⟨(h.2 q x hx).1.kept (hk q (h.2 q x hx).1.lt (hne q x hx)), (h.2 q x hx).2⟩⟩
end LL
theorem hl_mK {G : HG} {b : Nat} {U : State} (h : Hk G U) : mK (mX G b) U := ⟨h.1 17 _ rfl, (h.2 0 _ rfl).1, (h.2 6 _ rfl).1⟩
