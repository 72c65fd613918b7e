/-! THE PLAIN LAW, 3: what lies about, as the model runs a story -/
set_option maxRecDepth 100000
/-- (what lies by place and sort, what is worn by place) -/
abbrev Sc : Type := (Nat → Nat → Int32) × (Nat → Int32)
def mget (σ : MSt) : Sc := (σ.2.2 39, σ.2.1 40)
def mput (σ : MSt) (x : Sc) : MSt := (σ.1, fun k => if k = 40 then x.2 else σ.2.1 k, fun k => if k = 39 then x.1 else σ.2.2 k)
def sUp (x : Sc) (i j : Nat) (v : Int32) : Sc := (fun a b => if a = i ∧ b = j then v else x.1 a b, x.2)
def sWr (x : Sc) (i : Nat) (v : Int32) : Sc := (x.1, fun a => if a = i then v else x.2 a)
theorem mput_get {σ : MSt} {x : Sc} : mget (mput σ x) = x := rfl
theorem mput_1 {σ : MSt} {x : Sc} : (mput σ x).1 = σ.1 := rfl
theorem mput_2 {σ : MSt} {x : Sc} {k : Nat} (h : k ≠ 40) : (mput σ x).2.1 k = σ.2.1 k := if_neg h
theorem mput_3 {σ : MSt} {x : Sc} {k : Nat} (h : k ≠ 39) : (mput σ x).2.2 k = σ.2.2 k := if_neg h
theorem mput_39 {σ : MSt} {x : Sc} : (mput σ x).2.2 39 = x.1 := rfl
theorem mput_40 {σ : MSt} {x : Sc} : (mput σ x).2.1 40 = x.2 := rfl
theorem mput_mput {σ : MSt} {x y : Sc} : mput (mput σ x) y = mput σ y := mst_ext (fun k => rfl) (fun k i => by
  by_cases h : k = 40 <;> simp [mput, h]) (fun k i j => by
  by_cases h : k = 39 <;> simp [mput, h])
theorem mput_self {σ : MSt} : mput σ (mget σ) = σ := mst_ext (fun k => rfl) (fun k i => by
  by_cases h : k = 40
  · subst h; rfl
  · simp [mput, h]) (fun k i j => by
  by_cases h : k = 39
  · subst h; rfl
  · simp [mput, h])
theorem mput_sG {σ : MSt} {x : Sc} {i j : Nat} {v : Int32} : m_sG (mput σ x) 39 i j v = mput σ (sUp x i j v) := mst_ext (fun k => rfl) (fun k i => rfl) (fun k a b => by
  rw [sG_3]
  by_cases h : k = 39
  · subst h
    simp [mput, sUp]
  · simp [mput, h])
theorem mput_sA {σ : MSt} {x : Sc} {i : Nat} {v : Int32} : m_sA (mput σ x) 40 i v = mput σ (sWr x i v) := mst_ext (fun k => rfl) (fun k a => by
  rw [sA_2]
  by_cases h : k = 40
  · subst h
    simp [mput, sWr]
  · simp [mput, h]) (fun k a b => rfl)
theorem mput_E {σ : MSt} {x : Sc} : mE [] [40] [39] σ (mput σ x) := ⟨fun _ _ => rfl, fun k hk => mput_2 (by simpa using hk), fun k hk => mput_3 (by simpa using hk)⟩
theorem i10 {a k : Nat} : (10 : Int32) * nI a + nI k = nI (10 * a + k) := by rw [il_mul, nI_add]
theorem i20 {a k : Nat} : (20 : Int32) * nI a + nI k = nI (20 * a + k) := by rw [il_mul, nI_add]
theorem Sc_ext {x y : Sc} (h1 : ∀ i j, x.1 i j = y.1 i j) (h2 : ∀ i, x.2 i = y.2 i) : x = y := Prod.ext (funext fun i => funext (h1 i)) (funext h2)
/-! what staying, a touch, an hour do, up to the sort k -/
def sStayK (x : Sc) (p : Nat) (n : Int32) (k : Nat) : Sc := (fun i j => if i = p ∧ j < k then x.1 p j * n / 16 else x.1 i j, x.2)
def sFrom (sh : Nat → Nat → Int32) (w : Int32) (s : Nat) : Int32 := if w = -1 then 0 else sh w.toNatClampNeg s
def sA (ps : Int32) (u v w : Int32) : Int32 := mLess 9999 (u - u * ps / 16 + v * ps / 16 + w)
def sTouchK (ps : Int32) (sh : Nat → Nat → Int32) (x : Sc) (a b k : Nat) : Sc := (fun i j => if i = b ∧ j < k then sA ps (x.1 b j) (x.1 a j) (sFrom sh (x.2 a) j) else (if i = a ∧ j < k then sA ps (x.1 a j) (x.1 b j) (sFrom sh (x.2 b) j) else x.1 i j), x.2)
def sInitK (x : Sc) (k m c : Nat) : Sc := (fun i j => if (i < k ∨ i = k ∧ j < m) ∧ j < 10 then 0 else x.1 i j, fun i => if i < c then -1 else x.2 i)
def sHourK (ho : Nat → Int32) (x : Sc) (k m : Nat) : Sc := (fun i j => if (i < k ∨ i = k ∧ j < m) ∧ j < 10 then x.1 i j * ho j / 16 else x.1 i j, x.2)
theorem stays_e {σ : MSt} {p : Nat} {n : Int32} (hp : p < 10) : dX4_stays σ (nI p) n = some (mput σ (sStayK (mget σ) p n 10)) := by
  apply wp_eq
  unfold dX4_stays
  rw [wp_bd]
  refine wp_for 10 0 (fun k v => v = (nI k, mput σ (sStayK (mget σ) p n k))) (by omega) ?_ ?_ ?_
  · have e : sStayK (mget σ) p n 0 = mget σ := Sc_ext (fun i j => if_neg (by omega)) (fun _ => rfl)
    rw [e, mput_self]; rfl
  · rintro j w hj rfl
    unfold bX4_stays_1
    have h1 : ¬ 10 ≤ j := by omega
    simp (disch := omega) only [wp_some, wp_none, wp_bd, wp_lt, wp_ck, wp_ite, rs_l, rs_r, lpo_l, lpo_r, wt_bd_s, q_10, q_330, z_eq, z_le, nI_1, nI_leI, nI_ltI, nI_eq, nI_add, nI_clamp, vp_nI, vp_0, vp_1, vp_2, vp_3, c_0, c_1, c_2, c_3, Nat.reduceLT, if_true, if_false, true_and, and_true, true_or, or_true, false_or, or_false, not_true, not_false_iff, h1, hp, hj, mput_sG, mput_39]
    refine congrArg (fun z => (nI (j + 1), mput σ z)) (Sc_ext (fun a b => ?_) (fun _ => rfl))
    simp only [sUp, sStayK, mget]
    first | rfl | grind | ((repeat' split) <;> first | rfl | omega | simp_all)
  · rintro w rfl
    unfold bX4_stays_1
    simp (disch := omega) only [wp_some, wp_none, wp_bd, wp_lt, wp_ck, wp_ite, rs_l, rs_r, lpo_l, lpo_r, wt_bd_s, q_10, q_330, z_eq, z_le, nI_1, nI_leI, nI_ltI, nI_eq, nI_add, nI_clamp, vp_nI, vp_0, vp_1, vp_2, vp_3, c_0, c_1, c_2, c_3, Nat.reduceLT, if_true, if_false, true_and, and_true, true_or, or_true, false_or, or_false, not_true, not_false_iff, Nat.le_refl]
theorem touch_step {ps : Int32} {sh : Nat → Nat → Int32} {x : Sc} {a b j : Nat} : sUp (sUp (sTouchK ps sh x a b j) a j (sA ps (x.1 a j) (x.1 b j) (sFrom sh (x.2 b) j))) b j (sA ps (x.1 b j) (x.1 a j) (sFrom sh (x.2 a) j)) = sTouchK ps sh x a b (j + 1) := Sc_ext (fun i k => by
  show (if i = b ∧ k = j then _ else (if i = a ∧ k = j then _ else (if i = b ∧ k < j then _ else (if i = a ∧ k < j then _ else _)))) = (if i = b ∧ k < j + 1 then _ else (if i = a ∧ k < j + 1 then _ else _))
  by_cases c1 : k = j
  · subst c1
    by_cases c2 : i = b
    · rw [if_pos ⟨c2, rfl⟩, if_pos ⟨c2, Nat.lt_succ_self _⟩]
    · rw [if_neg (fun z => c2 z.1)]
      by_cases c3 : i = a
      · rw [if_pos ⟨c3, rfl⟩, if_neg (fun z => c2 z.1), if_pos ⟨c3, Nat.lt_succ_self _⟩]
      · rw [if_neg (fun z => c3 z.1), if_neg (fun z => c2 z.1), if_neg (fun z => c3 z.1), if_neg (fun z => c2 z.1), if_neg (fun z => c3 z.1)]
  · have e : (k < j + 1) = (k < j) := propext ⟨fun z => by omega, fun z => by omega⟩
    rw [if_neg (fun z => c1 z.2), if_neg (fun z => c1 z.2)]
    simp only [e]) (fun _ => rfl)
theorem touches_e {σ : MSt} {a b : Nat} (ha : a < 10) (hb : b < 10) (hw : ∀ i, i < 10 → σ.2.1 40 i = -1 ∨ Ix (σ.2.1 40 i) 8) : dX4_touches σ (nI a) (nI b) = some (mput σ (sTouchK (σ.1 10) (σ.2.2 12) (mget σ) a b 10)) := by
  have key : ∀ (c j : Nat), c < 10 → (if (σ.2.1 40 c) = (-1 : Int32) then (some (0 : Int32)) else (wt_ck (vp_in (σ.2.1 40 c) 8) <| some (σ.2.2 12 ((σ.2.1 40 c).toNatClampNeg) j))) = some (sFrom (σ.2.2 12) (σ.2.1 40 c) j) := by
    intro c j hc
    unfold sFrom
    by_cases h : σ.2.1 40 c = -1
    · rw [if_pos h, if_pos h]
    · rw [if_neg h, if_neg h]
      rcases hw c hc with h2 | ⟨q, hq, e⟩
      · exact absurd h2 h
      · rw [wt_ck_t (by rw [e, vp_nI (by omega)]; exact hq)]
  apply wp_eq
  unfold dX4_touches
  rw [wp_bd]
  refine wp_for 10 0 (fun k v => v = (nI k, mput σ (sTouchK (σ.1 10) (σ.2.2 12) (mget σ) a b k))) (by omega) ?_ ?_ ?_
  · have e : sTouchK (σ.1 10) (σ.2.2 12) (mget σ) a b 0 = mget σ := Sc_ext (fun i j => by
      show (if _ then _ else _) = _
      rw [if_neg (by omega), if_neg (by omega)]) (fun _ => rfl)
    rw [e, mput_self]; rfl
  · rintro j w hj rfl
    unfold bX4_touches_1
    have h1 : ¬ 10 ≤ j := by omega
    have hga : (sTouchK (σ.1 10) (σ.2.2 12) (mget σ) a b j).1 a j = σ.2.2 39 a j := by
      show (if _ then _ else _) = _
      rw [if_neg (by omega), if_neg (by omega)]; rfl
    have hgb : (sTouchK (σ.1 10) (σ.2.2 12) (mget σ) a b j).1 b j = σ.2.2 39 b j := by
      show (if _ then _ else _) = _
      rw [if_neg (by omega), if_neg (by omega)]; rfl
    have va : vp_in (nI a) 10 := by rw [vp_nI (by omega)]; exact ha
    have vb : vp_in (nI b) 10 := by rw [vp_nI (by omega)]; exact hb
    have vj : vp_in (nI j) 10 := by rw [vp_nI (by omega)]; exact hj
    obtain ⟨X, hX⟩ : ∃ X, X = sTouchK (σ.1 10) (σ.2.2 12) (mget σ) a b j := ⟨_, rfl⟩
    have hw2 : X.2 = σ.2.1 40 := by rw [hX]; rfl
    rw [← hX] at hga hgb ⊢
    have key2 : ∀ c, c < 10 → (if ((mput σ X).2.1 40 c) = (-1 : Int32) then (some (0 : Int32)) else (wt_ck (vp_in (nI c) 10) <| wt_ck (vp_in ((mput σ X).2.1 40 c) 8) <| wt_ck (vp_in (nI j) 10) <| some ((mput σ X).2.2 12 (((mput σ X).2.1 40 c).toNatClampNeg) j))) = some (sFrom (σ.2.2 12) (σ.2.1 40 c) j) := by
      intro c hc
      rw [mput_40, hw2, wt_ck_t (show vp_in (nI c) 10 by rw [vp_nI (by omega)]; exact hc), wt_ck_t vj]
      exact key c j hc
    dsimp only
    rw [wp_ite, if_neg (by rw [q_10, nI_leI (by omega) (by omega)]; omega), wt_ck_t va, wt_ck_t vj, wp_lt, wt_ck_t vb, wt_ck_t vj, wp_lt, wp_lt, wp_lt, wt_ck_t vb, nI_clamp (by omega), nI_clamp (by omega), nI_clamp (by omega)]
    refine wp_ap (P := fun r => r = sFrom (σ.2.2 12) (σ.2.1 40 b) j) ⟨_, key2 b hb, rfl⟩ fun w21 e21 => ?_
    subst e21
    rw [wt_ck_t va]
    refine wp_ap (P := fun r => r = sFrom (σ.2.2 12) (σ.2.1 40 a) j) ⟨_, key2 a ha, rfl⟩ fun w30 e30 => ?_
    subst e30
    rw [wt_ck_t va, less_e, wt_bd_s, wt_ck_t vj, wp_lt, wt_ck_t vb, less_e, wt_bd_s, wt_ck_t vj, wp_lt, wp_lt, wp_some, lpo_l, nI_1, mput_39, hga, hgb, mput_1, mput_sG, mput_sG]
    subst hX
    exact congrArg (fun z => (nI (j + 1), mput σ z)) touch_step
  · rintro w rfl
    unfold bX4_touches_1
    simp (disch := omega) only [wp_some, wp_none, wp_bd, wp_lt, wp_ck, wp_ite, rs_l, rs_r, lpo_l, lpo_r, wt_bd_s, q_10, q_330, z_eq, z_le, nI_1, nI_leI, nI_ltI, nI_eq, nI_add, nI_clamp, vp_nI, vp_0, vp_1, vp_2, vp_3, c_0, c_1, c_2, c_3, Nat.reduceLT, if_true, if_false, true_and, and_true, true_or, or_true, false_or, or_false, not_true, not_false_iff, Nat.le_refl]
/-! one event -/
/-- (wash, pass, shed, hold) -/
abbrev LW : Type := Int32 × Int32 × (Nat → Nat → Int32) × (Nat → Int32)
def lwOf (σ : MSt) : LW := (σ.1 9, σ.1 10, σ.2.2 12, σ.2.1 13)
theorem lwOf_put {σ : MSt} {x : Sc} : lwOf (mput σ x) = lwOf σ := rfl
def sDo (w : LW) (e : Nat → Int32) (x : Sc) : Sc :=
  if e 0 = 0 then sWr x (e 1).toNatClampNeg (e 2)
  else if e 0 = 1 then sWr x (e 1).toNatClampNeg (-1)
  else if e 0 = 2 then sTouchK w.2.1 w.2.2.1 x (e 1).toNatClampNeg (e 2).toNatClampNeg 10
  else if e 0 = 3 then sStayK x (e 1).toNatClampNeg w.1 10
  else if e 0 = 4 then sStayK x (e 1).toNatClampNeg (e 2) 10
  else x
/-- an event's row (kind, place, other, hour) is in order -/
def EvOk (e : Nat → Int32) : Prop := Ix (e 1) 10 ∧ (e 0 = 0 ∧ Ix (e 2) 8 ∨ e 0 = 1 ∨ e 0 = 2 ∧ Ix (e 2) 10 ∨ e 0 = 3 ∨ e 0 = 4 ∧ Ix (e 2) 17) ∧ Ix (e 3) 100
def ScW (x : Sc) : Prop := ∀ i, i < 10 → x.2 i = -1 ∨ Ix (x.2 i) 8
theorem ScW_do {w : LW} {e : Nat → Int32} {x : Sc} (he : EvOk e) (hx : ScW x) : ScW (sDo w e x) := by
  obtain ⟨-, hk, -⟩ := he
  unfold sDo
  rcases hk with ⟨h, h2⟩ | h | ⟨h, h2⟩ | h | ⟨h, h2⟩
  · rw [if_pos h]
    intro i hi
    show (if _ then _ else _) = _ ∨ Ix (if _ then _ else _) 8
    by_cases c : i = (e 1).toNatClampNeg
    · rw [if_pos c]; exact Or.inr h2
    · rw [if_neg c]; exact hx i hi
  · rw [if_neg (by rw [h]; decide), if_pos h]
    intro i hi
    show (if _ then _ else _) = _ ∨ Ix (if _ then _ else _) 8
    by_cases c : i = (e 1).toNatClampNeg
    · rw [if_pos c]; exact Or.inl rfl
    · rw [if_neg c]; exact hx i hi
  · rw [if_neg (by rw [h]; decide), if_neg (by rw [h]; decide), if_pos h]
    exact hx
  · rw [if_neg (by rw [h]; decide), if_neg (by rw [h]; decide), if_neg (by rw [h]; decide), if_pos h]
    exact hx
  · rw [if_neg (by rw [h]; decide), if_neg (by rw [h]; decide), if_neg (by rw [h]; decide), if_neg (by rw [h]; decide), if_pos h]
    exact hx
theorem does_e {σ : MSt} {q : Nat} (he : EvOk (σ.2.2 26 q)) (hw : ScW (mget σ)) : dX4_does σ q = some (mput σ (sDo (lwOf σ) (σ.2.2 26 q) (mget σ))) := by
  obtain ⟨⟨p, hp, ep⟩, hk, -⟩ := he
  have hc : (σ.2.2 26 q 1).toNatClampNeg = p := by rw [ep]; exact nI_clamp (by omega)
  have e26 : ∀ {x : Sc}, (mput σ x).2.2 26 = σ.2.2 26 := mput_3 (by decide)
  have hA : ∀ v, m_sA σ 40 p v = mput σ (sWr (mget σ) p v) := fun v => by
    rw [← mput_sA, mput_self]
  unfold sDo
  apply wp_eq
  unfold dX4_does
  rcases hk with ⟨h, h2⟩ | h | ⟨h, o, ho, h2⟩ | h | ⟨h, o, ho, h2⟩
  all_goals simp (disch := omega) only [wp_ite, wp_lt, wp_ck, wp_bd, wp_some, vp_0, vp_1, vp_2, vp_3, vp_nI, nI_clamp, c_0, c_1, c_2, c_3, ep, hp, hc, e26, h, hA, true_and, and_true, eq_self, d01, d02, d03, d04, d10, d12, d13, d14, d20, d21, d23, d24, d30, d31, d32, d34, d40, d41, d42, d43, if_true, if_false, Nat.reduceLT]
  · rw [h2, touches_e hp ho hw, wp_some, nI_clamp (by omega)]
    simp only [wp_ite, wp_some, e26, h, eq_self, d01, d02, d03, d04, d10, d12, d13, d14, d20, d21, d23, d24, d30, d31, d32, d34, d40, d41, d42, d43, if_false]
    rfl
  · rw [stays_e hp, wp_some]
    simp only [wp_ite, wp_some, e26, h, eq_self, d01, d02, d03, d04, d10, d12, d13, d14, d20, d21, d23, d24, d30, d31, d32, d34, d40, d41, d42, d43, if_false]
    rfl
  · rw [stays_e hp, wp_some]
/-! a run: hour by hour -/
def sEvs (w : LW) (ev : Nat → Nat → Int32) (kp : Nat → Bool) (h : Nat) : Nat → Nat → Sc → Nat × Sc
  | 0, k, x => (k, x)
  | n + 1, k, x => if ev k 3 = nI h then sEvs w ev kp h n (k + 1) (if kp k = true then sDo w (ev k) x else x) else (k, x)
def sMore (w : LW) (mo : Option (Nat × Nat × Nat)) (h : Nat) (x : Sc) : Sc := match mo with
  | none => x
  | some (a, b, t) => if t = h then sTouchK w.2.1 w.2.2.1 x a b 10 else x
def sRun (w : LW) (m : Nat) (ev : Nat → Nat → Int32) (kp : Nat → Bool) (mo : Option (Nat × Nat × Nat)) (x0 : Sc) : Nat → Nat × Sc
  | 0 => (0, sInitK x0 10 0 10)
  | h + 1 => ((sEvs w ev kp h (m - (sRun w m ev kp mo x0 h).1) (sRun w m ev kp mo x0 h).1 (if h = 0 then (sRun w m ev kp mo x0 h).2 else sHourK w.2.2.2 (sRun w m ev kp mo x0 h).2 10 0)).1,
      sMore w mo h (sEvs w ev kp h (m - (sRun w m ev kp mo x0 h).1) (sRun w m ev kp mo x0 h).1 (if h = 0 then (sRun w m ev kp mo x0 h).2 else sHourK w.2.2.2 (sRun w m ev kp mo x0 h).2 10 0)).2)
theorem sEvs_ok {w : LW} {ev : Nat → Nat → Int32} {kp : Nat → Bool} {h m : Nat} (he : ∀ k, k < m → EvOk (ev k)) : ∀ (n k : Nat) (x : Sc), n + k = m → ScW x → ScW (sEvs w ev kp h n k x).2 ∧ k ≤ (sEvs w ev kp h n k x).1 ∧ (sEvs w ev kp h n k x).1 ≤ m := by
  intro n
  induction n with
  | zero => intro k x hk hx; exact ⟨hx, Nat.le_refl _, by show k ≤ m; omega⟩
  | succ n ih =>
    intro k x hk hx
    unfold sEvs
    by_cases c : ev k 3 = nI h
    · rw [if_pos c]
      have hx' : ScW (if kp k = true then sDo w (ev k) x else x) := by
        by_cases c2 : kp k = true
        · rw [if_pos c2]; exact ScW_do (he k (by omega)) hx
        · rw [if_neg c2]; exact hx
      obtain ⟨h1, h2, h3⟩ := ih (k + 1) _ (by omega) hx'
      exact ⟨h1, by omega, h3⟩
    · rw [if_neg c]
      exact ⟨hx, Nat.le_refl _, by show k ≤ m; omega⟩
theorem ScW_init {x : Sc} : ScW (sInitK x 10 0 10) := fun i hi => Or.inl (if_pos hi)
theorem sRun_ok {w : LW} {m : Nat} {ev : Nat → Nat → Int32} {kp : Nat → Bool} {mo : Option (Nat × Nat × Nat)} {x0 : Sc} (he : ∀ k, k < m → EvOk (ev k)) : ∀ h, ScW (sRun w m ev kp mo x0 h).2 ∧ (sRun w m ev kp mo x0 h).1 ≤ m := by
  intro h
  induction h with
  | zero => exact ⟨ScW_init, Nat.zero_le _⟩
  | succ h ih =>
    have h1 : ScW (if h = 0 then (sRun w m ev kp mo x0 h).2 else sHourK w.2.2.2 (sRun w m ev kp mo x0 h).2 10 0) := by
      by_cases c : h = 0
      · rw [if_pos c]; exact ih.1
      · rw [if_neg c]; exact ih.1
    obtain ⟨h2, h3, h4⟩ := sEvs_ok (w := w) (kp := kp) (h := h) he (m - (sRun w m ev kp mo x0 h).1) (sRun w m ev kp mo x0 h).1 _ (by have := ih.2; omega) h1
    refine ⟨?_, h4⟩
    show ScW (sMore w mo h _)
    unfold sMore
    split
    · exact h2
    · split
      · exact h2
      · exact h2
/-! the model runs a story -/
theorem comes_put {σ : MSt} {x : Sc} {a : Int32} {q : Nat} : dX4_comes (mput σ x) a q = dX4_comes σ a q := by
  unfold dX4_comes
  simp only [mput_1, mput_3 (show (26 : Nat) ≠ 39 from by decide)]
/-- what a run rests on: the story st of m events; which of them come; the touch that comes besides -/
def RunIn (σ : MSt) (st m : Nat) (kp : Nat → Bool) (mo : Option (Nat × Nat × Nat)) : Prop :=
  st < 4 ∧ m ≤ 20 ∧ σ.2.1 25 st = nI m ∧ (∀ k, k < m → EvOk (σ.2.2 26 (20 * st + k))) ∧ (∀ k, k < m → dX4_comes σ (nI k) (20 * st + k) = some (if kp k = true then 1 else 0)) ∧
  ((mo = none ∧ σ.1 42 = -1) ∨ ∃ a b t, mo = some (a, b, t) ∧ a < 10 ∧ b < 10 ∧ t < 100 ∧ σ.1 42 = nI a ∧ σ.1 43 = nI b ∧ σ.1 44 = nI t)
theorem RunIn.put {σ : MSt} {st m : Nat} {kp : Nat → Bool} {mo : Option (Nat × Nat × Nat)} {x : Sc} (h : RunIn σ st m kp mo) : RunIn (mput σ x) st m kp mo := by
  obtain ⟨h1, h2, h3, h4, h5, h6⟩ := h
  refine ⟨h1, h2, ?_, ?_, ?_, h6⟩
  · rw [mput_2 (by decide)]; exact h3
  · intro k hk
    rw [mput_3 (by decide)]; exact h4 k hk
  · intro k hk
    rw [comes_put]; exact h5 k hk
theorem runs_init {σ : MSt} : wt_whC bX4_runs_1 ((0 : Int32), σ) = some (mput σ (sInitK (mget σ) 10 0 10)) := by
  apply wp_eq
  refine wp_for 10 0 (fun k v => v = (nI k, mput σ (sInitK (mget σ) k 0 k))) (by omega) ?_ ?_ ?_
  · have e : sInitK (mget σ) 0 0 0 = mget σ := Sc_ext (fun i j => if_neg (by omega)) (fun i => by
      show (if i < 0 then (-1 : Int32) else (mget σ).2 i) = _
      rw [if_neg (by omega)])
    rw [e, mput_self]; rfl
  · rintro k w hk rfl
    unfold bX4_runs_1
    have h1 : ¬ 10 ≤ k := by omega
    have hin : wt_whC (bX4_runs_2 (nI k, mput σ (sInitK (mget σ) k 0 k))) ((0 : Int32), mput σ (sInitK (mget σ) k 0 (k + 1))) = some (mput σ (sInitK (mget σ) k 10 (k + 1))) := by
      apply wp_eq
      refine wp_for 10 0 (fun j v => v = (nI j, mput σ (sInitK (mget σ) k j (k + 1)))) (by omega) rfl ?_ ?_
      · rintro j w hj rfl
        unfold bX4_runs_2
        have h2 : ¬ 10 ≤ j := by omega
        simp (disch := omega) only [wp_some, wp_none, wp_bd, wp_lt, wp_ck, wp_ite, rs_l, rs_r, lpo_l, lpo_r, wt_bd_s, q_10, q_330, z_eq, z_le, nI_1, nI_leI, nI_ltI, nI_eq, nI_add, nI_clamp, vp_nI, vp_0, vp_1, vp_2, vp_3, c_0, c_1, c_2, c_3, Nat.reduceLT, if_true, if_false, true_and, and_true, true_or, or_true, false_or, or_false, not_true, not_false_iff, h2, hk, hj, mput_sG]
        refine congrArg (fun z => (nI (j + 1), mput σ z)) (Sc_ext (fun a b => ?_) (fun _ => rfl))
        simp only [sUp, sInitK]
        first | rfl | grind | ((repeat' split) <;> first | rfl | omega | simp_all)
      · rintro w rfl
        unfold bX4_runs_2
        simp (disch := omega) only [wp_some, wp_none, wp_bd, wp_lt, wp_ck, wp_ite, rs_l, rs_r, lpo_l, lpo_r, wt_bd_s, q_10, q_330, z_eq, z_le, nI_1, nI_leI, nI_ltI, nI_eq, nI_add, nI_clamp, vp_nI, vp_0, vp_1, vp_2, vp_3, c_0, c_1, c_2, c_3, Nat.reduceLT, if_true, if_false, true_and, and_true, true_or, or_true, false_or, or_false, not_true, not_false_iff, Nat.le_refl]
    have e1 : sWr (sInitK (mget σ) k 0 k) k (-1) = sInitK (mget σ) k 0 (k + 1) := Sc_ext (fun _ _ => rfl) (fun i => by
      simp only [sWr, sInitK]
      first | rfl | grind | ((repeat' split) <;> first | rfl | omega | simp_all))
    have e2 : sInitK (mget σ) k 10 (k + 1) = sInitK (mget σ) (k + 1) 0 (k + 1) := Sc_ext (fun i j => by
      simp only [sInitK]
      first | rfl | grind | ((repeat' split) <;> first | rfl | omega | simp_all)) (fun _ => rfl)
    simp (disch := omega) only [wp_some, wp_none, wp_bd, wp_lt, wp_ck, wp_ite, rs_l, rs_r, lpo_l, lpo_r, wt_bd_s, q_10, q_330, z_eq, z_le, nI_1, nI_leI, nI_ltI, nI_eq, nI_add, nI_clamp, vp_nI, vp_0, vp_1, vp_2, vp_3, c_0, c_1, c_2, c_3, Nat.reduceLT, if_true, if_false, true_and, and_true, true_or, or_true, false_or, or_false, not_true, not_false_iff, h1, hk, mput_sA, e1, hin, e2]
  · rintro w rfl
    unfold bX4_runs_1
    simp (disch := omega) only [wp_some, wp_none, wp_bd, wp_lt, wp_ck, wp_ite, rs_l, rs_r, lpo_l, lpo_r, wt_bd_s, q_10, q_330, z_eq, z_le, nI_1, nI_leI, nI_ltI, nI_eq, nI_add, nI_clamp, vp_nI, vp_0, vp_1, vp_2, vp_3, c_0, c_1, c_2, c_3, Nat.reduceLT, if_true, if_false, true_and, and_true, true_or, or_true, false_or, or_false, not_true, not_false_iff, Nat.le_refl]
theorem runs_hour {σ : MSt} {x : Sc} {h k0 : Nat} (hh : h < 200) : wt_whC (bX4_runs_4 (nI k0, nI h, mput σ x)) ((0 : Int32), mput σ x) = some (mput σ (if h = 0 then x else sHourK (σ.2.1 13) x 10 0)) := by
  apply wp_eq
  by_cases h0 : h = 0
  · subst h0
    refine ⟨_, wt_whC_e (e := mput σ x) ?_, rfl⟩
    unfold bX4_runs_4
    dsimp only
    rw [if_neg (by decide), if_pos (by rw [nI_0]; decide)]
  · rw [if_neg h0]
    refine wp_for 10 0 (fun k v => v = (nI k, mput σ (sHourK (σ.2.1 13) x k 0))) (by omega) ?_ ?_ ?_
    · have e : sHourK (σ.2.1 13) x 0 0 = x := Sc_ext (fun i j => if_neg (by omega)) (fun _ => rfl)
      rw [e]; rfl
    · rintro k w hk rfl
      unfold bX4_runs_4
      have h1 : ¬ 10 ≤ k := by omega
      have h2 : ¬ h ≤ 0 := by omega
      have hin : wt_whC (bX4_runs_5 (nI k, mput σ (sHourK (σ.2.1 13) x k 0))) ((0 : Int32), mput σ (sHourK (σ.2.1 13) x k 0)) = some (mput σ (sHourK (σ.2.1 13) x k 10)) := by
        apply wp_eq
        refine wp_for 10 0 (fun j v => v = (nI j, mput σ (sHourK (σ.2.1 13) x k j))) (by omega) rfl ?_ ?_
        · rintro j w hj rfl
          unfold bX4_runs_5
          have h3 : ¬ 10 ≤ j := by omega
          have e : (sHourK (σ.2.1 13) x k j).1 k j = x.1 k j := if_neg (by omega)
          simp (disch := omega) only [wp_some, wp_none, wp_bd, wp_lt, wp_ck, wp_ite, rs_l, rs_r, lpo_l, lpo_r, wt_bd_s, q_10, q_330, z_eq, z_le, nI_1, nI_leI, nI_ltI, nI_eq, nI_add, nI_clamp, vp_nI, vp_0, vp_1, vp_2, vp_3, c_0, c_1, c_2, c_3, Nat.reduceLT, if_true, if_false, true_and, and_true, true_or, or_true, false_or, or_false, not_true, not_false_iff, h3, hk, hj, mput_sG, mput_39, mput_2 (show (13 : Nat) ≠ 40 from by decide), e]
          refine congrArg (fun z => (nI (j + 1), mput σ z)) (Sc_ext (fun a b => ?_) (fun _ => rfl))
          simp only [sUp, sHourK]
          first | rfl | grind | ((repeat' split) <;> first | rfl | omega | simp_all)
        · rintro w rfl
          unfold bX4_runs_5
          simp (disch := omega) only [wp_some, wp_none, wp_bd, wp_lt, wp_ck, wp_ite, rs_l, rs_r, lpo_l, lpo_r, wt_bd_s, q_10, q_330, z_eq, z_le, nI_1, nI_leI, nI_ltI, nI_eq, nI_add, nI_clamp, vp_nI, vp_0, vp_1, vp_2, vp_3, c_0, c_1, c_2, c_3, Nat.reduceLT, if_true, if_false, true_and, and_true, true_or, or_true, false_or, or_false, not_true, not_false_iff, Nat.le_refl]
      have e2 : sHourK (σ.2.1 13) x k 10 = sHourK (σ.2.1 13) x (k + 1) 0 := Sc_ext (fun i j => by
        simp only [sHourK]
        first | rfl | grind | ((repeat' split) <;> first | rfl | omega | simp_all)) (fun _ => rfl)
      simp (disch := omega) only [wp_some, wp_none, wp_bd, wp_lt, wp_ck, wp_ite, rs_l, rs_r, lpo_l, lpo_r, wt_bd_s, q_10, q_330, z_eq, z_le, nI_1, nI_leI, nI_ltI, nI_eq, nI_add, nI_clamp, vp_nI, vp_0, vp_1, vp_2, vp_3, c_0, c_1, c_2, c_3, Nat.reduceLT, if_true, if_false, true_and, and_true, true_or, or_true, false_or, or_false, not_true, not_false_iff, h1, h2, hin, e2]
    · rintro w rfl
      unfold bX4_runs_4
      simp (disch := omega) only [wp_some, wp_none, wp_bd, wp_lt, wp_ck, wp_ite, rs_l, rs_r, lpo_l, lpo_r, wt_bd_s, q_10, q_330, z_eq, z_le, nI_1, nI_leI, nI_ltI, nI_eq, nI_add, nI_clamp, vp_nI, vp_0, vp_1, vp_2, vp_3, c_0, c_1, c_2, c_3, Nat.reduceLT, if_true, if_false, true_and, and_true, true_or, or_true, false_or, or_false, not_true, not_false_iff, Nat.le_refl]
theorem runs_evs {σ : MSt} {st m h : Nat} {kp : Nat → Bool} {mo : Option (Nat × Nat × Nat)} {x0 : Nat} {z : MSt} (hR : RunIn σ st m kp mo) (hh : h < 200) {k : Nat} {x : Sc} (hk : k ≤ m) (hx : ScW x) : wt_whC (bX4_runs_6 (nI st) (nI x0, nI h, z)) (nI k, mput σ x) = some (nI (sEvs (lwOf σ) (fun k => σ.2.2 26 (20 * st + k)) kp h (m - k) k x).1, mput σ (sEvs (lwOf σ) (fun k => σ.2.2 26 (20 * st + k)) kp h (m - k) k x).2) := by
  obtain ⟨hst, hm, e25, hev, hcm, -⟩ := hR
  apply wp_eq
  refine wp_loop (fun n v => ∃ j y, n = m - j ∧ j ≤ m ∧ ScW y ∧ v = (nI j, mput σ y) ∧ sEvs (lwOf σ) (fun k => σ.2.2 26 (20 * st + k)) kp h (m - j) j y = sEvs (lwOf σ) (fun k => σ.2.2 26 (20 * st + k)) kp h (m - k) k x) ?_ (m - k) _ ⟨k, x, rfl, hk, hx, rfl, rfl⟩
  rintro n v ⟨j, y, rfl, hj, hy, rfl, e⟩
  rw [← e]
  unfold bX4_runs_6
  have e26 : (mput σ y).2.2 26 = σ.2.2 26 := mput_3 (by decide)
  have ea : (mput σ y).2.1 25 = σ.2.1 25 := mput_2 (by decide)
  rcases Nat.lt_or_ge j m with hjm | hjm
  · have h1 : ¬ m ≤ j := by omega
    have hq : 20 * st + j < 80 := by omega
    have en : m - j = (m - (j + 1)) + 1 := by omega
    have hcj := hcm j hjm
    have hc2 : dX4_comes (mput σ y) (nI j) (20 * st + j) = some (if kp j = true then 1 else 0) := by rw [comes_put]; exact hcj
    have hd : dX4_does (mput σ y) (20 * st + j) = some (mput σ (sDo (lwOf σ) (σ.2.2 26 (20 * st + j)) y)) := by
      rw [does_e (σ := mput σ y) (by rw [e26]; exact hev j hjm) hy, e26, mput_mput, lwOf_put, mput_get]
    have hstep : sEvs (lwOf σ) (fun k => σ.2.2 26 (20 * st + k)) kp h (m - j) j y = (if σ.2.2 26 (20 * st + j) 3 = nI h then sEvs (lwOf σ) (fun k => σ.2.2 26 (20 * st + k)) kp h (m - (j + 1)) (j + 1) (if kp j = true then sDo (lwOf σ) (σ.2.2 26 (20 * st + j)) y else y) else (j, y)) := by
      rw [en]; rfl
    rw [hstep]
    by_cases ch : σ.2.2 26 (20 * st + j) 3 = nI h
    · rw [if_pos ch]
      by_cases ck : kp j = true
      · rw [if_pos ck] at hc2 ⊢
        simp (disch := omega) only [wp_some, wp_none, wp_bd, wp_lt, wp_ck, wp_ite, rs_l, rs_r, lpo_l, lpo_r, wt_bd_s, q_10, q_330, z_eq, z_le, nI_1, nI_leI, nI_ltI, nI_eq, nI_add, nI_clamp, vp_nI, vp_0, vp_1, vp_2, vp_3, c_0, c_1, c_2, c_3, Nat.reduceLT, if_true, if_false, true_and, and_true, true_or, or_true, false_or, or_false, not_true, not_false_iff, i20, hst, ea, e25, h1, hq, e26, ch, eq_self, hc2, d10, hd, show (3 : Nat) < 4 from by omega]
        exact ⟨_, by omega, j + 1, _, rfl, hjm, ScW_do (hev j hjm) hy, rfl, rfl⟩
      · rw [if_neg ck] at hc2 ⊢
        simp (disch := omega) only [wp_some, wp_none, wp_bd, wp_lt, wp_ck, wp_ite, rs_l, rs_r, lpo_l, lpo_r, wt_bd_s, q_10, q_330, z_eq, z_le, nI_1, nI_leI, nI_ltI, nI_eq, nI_add, nI_clamp, vp_nI, vp_0, vp_1, vp_2, vp_3, c_0, c_1, c_2, c_3, Nat.reduceLT, if_true, if_false, true_and, and_true, true_or, or_true, false_or, or_false, not_true, not_false_iff, i20, hst, ea, e25, h1, hq, e26, ch, eq_self, hc2, show (3 : Nat) < 4 from by omega]
        exact ⟨_, by omega, j + 1, _, rfl, hjm, hy, rfl, rfl⟩
    · rw [if_neg ch]
      simp (disch := omega) only [wp_some, wp_none, wp_bd, wp_lt, wp_ck, wp_ite, rs_l, rs_r, lpo_l, lpo_r, wt_bd_s, q_10, q_330, z_eq, z_le, nI_1, nI_leI, nI_ltI, nI_eq, nI_add, nI_clamp, vp_nI, vp_0, vp_1, vp_2, vp_3, c_0, c_1, c_2, c_3, Nat.reduceLT, if_true, if_false, true_and, and_true, true_or, or_true, false_or, or_false, not_true, not_false_iff, i20, hst, ea, e25, h1, hq, e26, ch, show (3 : Nat) < 4 from by omega]
  · have hj2 : j = m := by omega
    subst hj2
    have en : j - j = 0 := by omega
    rw [en]
    simp (disch := omega) only [wp_some, wp_none, wp_bd, wp_lt, wp_ck, wp_ite, rs_l, rs_r, lpo_l, lpo_r, wt_bd_s, q_10, q_330, z_eq, z_le, nI_1, nI_leI, nI_ltI, nI_eq, nI_add, nI_clamp, vp_nI, vp_0, vp_1, vp_2, vp_3, c_0, c_1, c_2, c_3, Nat.reduceLT, if_true, if_false, true_and, and_true, true_or, or_true, false_or, or_false, not_true, not_false_iff, hst, ea, e25, Nat.le_refl]
    rfl
theorem runs_e {σ : MSt} {st m hr : Nat} {kp : Nat → Bool} {mo : Option (Nat × Nat × Nat)} (hR : RunIn σ st m kp mo) (hh : hr < 100) : dX4_runs σ (nI st) (nI hr) = some (mput σ (sRun (lwOf σ) m (fun k => σ.2.2 26 (20 * st + k)) kp mo (mget σ) (hr + 1)).2) := by
  have hok := sRun_ok (w := lwOf σ) (kp := kp) (mo := mo) (x0 := mget σ) hR.2.2.2.1
  apply wp_eq
  unfold dX4_runs
  rw [runs_init, wt_bd_s, wp_bd]
  refine wp_for (hr + 1) 0 (fun h v => v = (nI (sRun (lwOf σ) m (fun k => σ.2.2 26 (20 * st + k)) kp mo (mget σ) h).1, nI h, mput σ (sRun (lwOf σ) m (fun k => σ.2.2 26 (20 * st + k)) kp mo (mget σ) h).2)) (by omega) rfl ?_ ?_
  · rintro h w hj rfl
    unfold bX4_runs_3
    have h1 : ¬ hr < h := by omega
    obtain ⟨hw, hm⟩ := hok h
    have hw2 : ScW (if h = 0 then (sRun (lwOf σ) m (fun k => σ.2.2 26 (20 * st + k)) kp mo (mget σ) h).2 else sHourK (σ.2.1 13) (sRun (lwOf σ) m (fun k => σ.2.2 26 (20 * st + k)) kp mo (mget σ) h).2 10 0) := by
      by_cases c : h = 0
      · rw [if_pos c]; exact hw
      · rw [if_neg c]; exact hw
    rw [wp_ite, if_neg (by rw [nI_ltI (by omega) (by omega)]; exact h1), runs_hour (by omega), wt_bd_s, runs_evs hR (by omega) hm hw2, wt_bd_s]
    obtain ⟨hw3, -, -⟩ := sEvs_ok (w := lwOf σ) (kp := kp) (h := h) hR.2.2.2.1 (m - (sRun (lwOf σ) m (fun k => σ.2.2 26 (20 * st + k)) kp mo (mget σ) h).1) (sRun (lwOf σ) m (fun k => σ.2.2 26 (20 * st + k)) kp mo (mget σ) h).1 _ (by omega) hw2
    rcases hR.2.2.2.2.2 with ⟨hmo, h42⟩ | ⟨a, b, t, hmo, ha, hb, ht, h42, h43, h44⟩
    · simp only [mput_1, h42, if_true]
      subst hmo
      rw [wp_lt, wp_some, lpo_l, nI_1]
      rfl
    · have hn : (nI a = -1) = False := nI_neg (by omega)
      simp only [mput_1, h42, h43, h44, hn, if_false]
      subst hmo
      by_cases c : t = h
      · subst c
        simp only [if_true]
        rw [touches_e (σ := mput σ _) ha hb hw3, wt_bd_s, wp_lt, wp_some, lpo_l, nI_1, mput_mput, mput_get]
        show _ = (_, _, mput σ (sMore _ _ _ _))
        simp only [sMore, if_true]
        rfl
      · have hc : (nI t = nI h) = False := eq_false (fun z => c ((nI_eq (by omega) (by omega)).mp z))
        simp only [hc, if_false]
        rw [wp_lt, wp_some, lpo_l, nI_1]
        show _ = (_, _, mput σ (sMore _ _ _ _))
        simp only [sMore, if_neg c]
        rfl
  · rintro w rfl
    unfold bX4_runs_3
    rw [wp_ite, if_pos (by rw [nI_ltI (by omega) (by omega)]; omega), wp_some, lpo_r, wp_some]
/-! THE PLAIN LAW, 4: sorts that are alike: the model's closure; a pile -/
set_option maxRecDepth 100000
def bt (x : Int32) (i : Nat) : Bool := x.toBitVec.getLsbD i
theorem b_ext {x y : Int32} (h : ∀ i, i < 32 → bt x i = bt y i) : x = y := Int32.toBitVec_inj.mp (BitVec.eq_of_getLsbD_eq (fun i hi => h i hi))
theorem b_or (x y : Int32) (i : Nat) : bt (x ||| y) i = (bt x i || bt y i) := by unfold bt; rw [Int32.toBitVec_or, BitVec.getLsbD_or]
theorem b_and (x y : Int32) (i : Nat) : bt (x &&& y) i = (bt x i && bt y i) := by unfold bt; rw [Int32.toBitVec_and, BitVec.getLsbD_and]
theorem b_big {x : Int32} {i : Nat} (h : 32 ≤ i) : bt x i = false := BitVec.getLsbD_of_ge _ _ h
theorem b_0 (i : Nat) : bt 0 i = false := BitVec.getLsbD_zero
theorem s_l : ∀ n, n < 32 → ((nI n &&& 31).toBitVec.smod 32).toNat = n := by decide +kernel
theorem b_shl (n : Nat) (hn : n < 32) (x : Int32) {i : Nat} (hi : i < 32) : bt (x <<< (nI n &&& 31)) i = (decide (n ≤ i) && bt x (i - n)) := by
  unfold bt
  rw [Int32.toBitVec_shiftLeft]
  show (x.toBitVec <<< ((nI n &&& 31).toBitVec.smod 32).toNat).getLsbD i = _
  rw [s_l n hn, BitVec.getLsbD_shiftLeft]
  rcases Nat.lt_or_ge i n with h | h
  · simp [h, Nat.not_le.mpr h]
  · simp [hi, h, Nat.not_lt.mpr h]
theorem b_sshr (n : Nat) (hn : n < 32) (x : Int32) {i : Nat} (hi : i < 32) : bt (x >>> (nI n &&& 31)) i = if n + i < 32 then bt x (n + i) else bt x 31 := by
  unfold bt
  rw [Int32.toBitVec_shiftRight]
  show (x.toBitVec.sshiftRight ((nI n &&& 31).toBitVec.smod 32).toNat).getLsbD i = _
  rw [s_l n hn, BitVec.getLsbD_sshiftRight, BitVec.msb_eq_getLsbD_last]
  simp [hi]
theorem b_1 (i : Nat) : bt 1 i = decide (i = 0) := by
  rcases Nat.lt_or_ge i 32 with h | h
  · exact (by decide +kernel : ∀ i, i < 32 → bt 1 i = decide (i = 0)) i h
  · rw [b_big h, decide_eq_false (by omega)]
/-- the test of a bit -/
theorem b_test {x : Int32} {n : Nat} (hn : n < 32) : (((x >>> (nI n &&& 31)) &&& (1 : Int32)) = 1) = (bt x n = true) := propext (by
  have h0 : bt (x >>> (nI n &&& 31)) 0 = bt x n := by
    rw [b_sshr n hn x (by omega), if_pos (by omega)]
    rfl
  constructor
  · intro h
    have h2 := congrArg (fun z => bt z 0) h
    simp only [b_and, b_1, h0] at h2
    simpa using h2
  · intro h
    refine b_ext fun i hi => ?_
    rw [b_and, b_1]
    by_cases c : i = 0
    · subst c
      rw [h0, h]; rfl
    · simp [c])
/-- one sort's own bit -/
theorem b_one {s j : Nat} (hs : s < 32) : bt ((1 : Int32) <<< (nI s &&& 31)) j = decide (j = s) := by
  rcases Nat.lt_or_ge j 32 with h | h
  · rw [b_shl s hs 1 h, b_1]
    by_cases c : j = s
    · subst c; simp
    · by_cases c2 : s ≤ j
      · have : ¬ (j - s = 0) := by omega
        simp [c, c2, this]
      · simp [c, c2]
  · rw [b_big h, decide_eq_false (by omega)]
theorem b_eq {x y : Int32} (h : ∀ i, bt x i = true ↔ bt y i = true) : x = y := b_ext fun i _ => by
  have := h i
  cases hx : bt x i <;> cases hy : bt y i <;> simp_all
/-- reached from i along the rows nr of the sorts under 10 -/
def Cn (nr : Nat → Int32) (i j : Nat) : Prop := ∀ P : Nat → Prop, P i → (∀ k l, k < 10 → P k → bt (nr k) l = true → P l) → P j
theorem Cn.rfl {nr : Nat → Int32} {i : Nat} : Cn nr i i := fun _ h _ => h
theorem Cn.step {nr : Nat → Int32} {i k l : Nat} (h : Cn nr i k) (hk : k < 10) (hb : bt (nr k) l = true) : Cn nr i l := fun P h0 h1 => h1 k l hk (h P h0 h1) hb
theorem Cn.trans {nr : Nat → Int32} {i j k : Nat} (h : Cn nr i j) (h2 : Cn nr j k) : Cn nr i k := fun P h0 h1 => h2 P (h P h0 h1) h1
/-- rows that are in order: of sorts under 10, both ways -/
def Nr (nr : Nat → Int32) : Prop := (∀ i j, i < 10 → bt (nr i) j = true → j < 10) ∧ (∀ i j, i < 10 → j < 10 → bt (nr i) j = true → bt (nr j) i = true)
theorem Cn.lt {nr : Nat → Int32} (h : Nr nr) {i j : Nat} (hi : i < 10) (hc : Cn nr i j) : j < 10 := hc (fun x => x < 10) hi (fun k l hk _ hb => h.1 k l hk hb)
theorem Cn.symm {nr : Nat → Int32} (h : Nr nr) {i j : Nat} (hi : i < 10) (hc : Cn nr i j) : Cn nr j i := by
  refine (hc (fun x => x < 10 ∧ Cn nr x i) ⟨hi, Cn.rfl⟩ ?_).2
  intro k l hk hp hb
  have hl := h.1 k l hk hb
  exact ⟨hl, (Cn.step Cn.rfl hl (h.2 k l hk hl hb)).trans hp.2⟩
/-- al s are the bits of what is alike with s -/
def AL (nr al : Nat → Int32) : Prop := Nr nr ∧ ∀ s j, s < 10 → (bt (al s) j = true ↔ Cn nr s j)
theorem or_le {x y : Nat} : x ≤ x ||| y := by
  first | exact Nat.left_le_or | (rw [Nat.le_iff_testBit]; intro i h; simp [h])
theorem bt_sub {x y : Int32} (h : ∀ j, bt x j = true → bt y j = true) (hne : x ≠ y) : x.toBitVec.toNat < y.toBitVec.toNat := by
  have e : x ||| y = y := b_eq fun i => by
    rw [b_or]
    have := h i
    cases hx : bt x i <;> simp_all
  have e2 : x.toBitVec.toNat ||| y.toBitVec.toNat = y.toBitVec.toNat := by
    have := congrArg (fun z : Int32 => z.toBitVec.toNat) e
    simpa only [Int32.toBitVec_or, BitVec.toNat_or] using this
  have h1 : x.toBitVec.toNat ≤ y.toBitVec.toNat := by
    have := @or_le x.toBitVec.toNat y.toBitVec.toNat
    omega
  have h2 : x.toBitVec.toNat ≠ y.toBitVec.toNat := fun z => hne (Int32.toBitVec_inj.mp (BitVec.eq_of_toNat_eq z))
  omega
/-- the inner loop: what the sorts of 'had' reach in one step -/
theorem alike_in {σ : MSt} {had : Int32} {h2 : Int32} : wp (wt_whC (bX4_alikeOf_2 σ (had, h2)) (had, (0 : Int32))) (fun r => ∀ j, bt r j = true ↔ (bt had j = true ∨ ∃ k, k < 10 ∧ bt had k = true ∧ bt (σ.2.1 15 k) j = true)) := by
  refine wp_for 10 0 (fun k v => v.2 = nI k ∧ ∀ j, bt v.1 j = true ↔ (bt had j = true ∨ ∃ q, q < k ∧ bt had q = true ∧ bt (σ.2.1 15 q) j = true)) (by omega) ⟨rfl, fun j => ⟨fun h => Or.inl h, fun h => h.elim id fun ⟨q, hq, _⟩ => by omega⟩⟩ ?_ ?_
  · rintro k ⟨a, c⟩ hk ⟨hc, hv⟩
    simp only at hc hv
    subst hc
    unfold bX4_alikeOf_2
    have h1 : ¬ 10 ≤ k := by omega
    simp (disch := omega) only [wp_ite, q_10, nI_leI, h1, if_false, b_test]
    by_cases c : bt had k = true
    · rw [if_pos c]
      simp (disch := omega) only [wp_ck, wp_lt, wp_some, vp_nI, hk, true_and, lpo_l, nI_1, nI_clamp]
      intro j
      rw [b_or, Bool.or_eq_true, hv j]
      constructor
      · rintro ((h | ⟨q, hq, h⟩) | h)
        · exact Or.inl h
        · exact Or.inr ⟨q, by omega, h⟩
        · exact Or.inr ⟨k, by omega, c, h⟩
      · rintro (h | ⟨q, hq, h, h'⟩)
        · exact Or.inl (Or.inl h)
        · rcases Nat.lt_or_ge q k with hlt | hge
          · exact Or.inl (Or.inr ⟨q, hlt, h, h'⟩)
          · have : q = k := by omega
            subst this
            exact Or.inr h'
    · rw [if_neg c]
      simp (disch := omega) only [wp_lt, wp_some, lpo_l, nI_1, true_and]
      intro j
      rw [hv j]
      constructor
      · rintro (h | ⟨q, hq, h⟩)
        · exact Or.inl h
        · exact Or.inr ⟨q, by omega, h⟩
      · rintro (h | ⟨q, hq, h, h'⟩)
        · exact Or.inl h
        · rcases Nat.lt_or_ge q k with hlt | hge
          · exact Or.inr ⟨q, hlt, h, h'⟩
          · have : q = k := by omega
            subst this
            exact absurd h c
  · rintro ⟨a, c⟩ ⟨hc, hv⟩
    simp only at hc hv
    subst hc
    unfold bX4_alikeOf_2
    simp (disch := omega) only [wp_ite, q_10, nI_leI, Nat.le_refl, if_true, wp_some, lpo_r]
    exact hv
theorem alike_e {σ : MSt} {al : Nat → Int32} {s : Nat} (hA : AL (σ.2.1 15) al) (hs : s < 10) : dX4_alikeOf σ (nI s) = some (al s) := by
  have hN := hA.1
  have hfin : ∀ b : Int32, bt b s = true → (∀ j, bt b j = true → Cn (σ.2.1 15) s j) → (∀ k, k < 10 → bt b k = true → ∀ l, bt (σ.2.1 15 k) l = true → bt b l = true) → b = al s := by
    intro b h1 h2 h3
    refine b_eq fun i => ?_
    rw [hA.2 s i hs]
    exact ⟨h2 i, fun h => h (fun x => bt b x = true) h1 (fun k l hk hp hb => h3 k hk hp l hb)⟩
  apply wp_eq
  unfold dX4_alikeOf
  simp only [wp_lt, wp_bd, wp_some]
  refine wp_loop (fun n v => n = 2 ^ 32 - v.2.toBitVec.toNat ∧ bt v.1 s = true ∧ (∀ j, bt v.1 j = true → Cn (σ.2.1 15) s j) ∧ (∀ j, bt v.2 j = true → bt v.1 j = true) ∧ (∀ k, k < 10 → bt v.2 k = true → ∀ l, bt (σ.2.1 15 k) l = true → bt v.1 l = true)) ?_ _ _ ⟨rfl, by rw [b_one (by omega)]; simp, fun j h => by
    rw [b_one (by omega)] at h
    have : j = s := by simpa using h
    subst this
    exact Cn.rfl, fun j h => (by rw [b_0] at h; cases h), fun k _ h => (by rw [b_0] at h; cases h)⟩
  rintro n ⟨b, had⟩ ⟨rfl, h1, h2, h3, h4⟩
  simp only at h1 h2 h3 h4
  unfold bX4_alikeOf_1
  by_cases c : b = had
  · rw [if_pos c, wp_some, lpo_r]
    subst c
    exact hfin b h1 h2 h4
  · rw [if_neg c, wp_bd]
    refine wp_mono alike_in fun r hr => ?_
    rw [wp_some, lpo_l]
    have hlt := bt_sub h3 (fun z => c z.symm)
    have hb := b.toBitVec.isLt
    refine ⟨_, ?_, rfl, (hr s).mpr (Or.inl h1), fun j hj => ?_, fun j hj => (hr j).mpr (Or.inl hj), fun k hk hb l hl => (hr l).mpr (Or.inr ⟨k, hk, hb, hl⟩)⟩
    · show 2 ^ 32 - b.toBitVec.toNat < 2 ^ 32 - had.toBitVec.toNat
      omega
    · rcases (hr j).mp hj with h | ⟨k, hk, hb, hl⟩
      · exact h2 j h
      · exact (h2 k hb).step hk hl
/-! two sorts are joined: the component's bits and the model's rows -/
theorem Cn.mono {nr nr' : Nat → Int32} (h : ∀ k l, k < 10 → bt (nr k) l = true → bt (nr' k) l = true) {i j : Nat} (hc : Cn nr i j) : Cn nr' i j := fun P h0 h1 => hc P h0 fun k l hk hp hb => h1 k l hk hp (h k l hk hb)
/-- the rows with a and b joined -/
def nrJ (nr : Nat → Int32) (a b : Nat) : Nat → Int32 := fun i => if i = b then (if b = a then nr a ||| ((1 : Int32) <<< (nI b &&& 31)) else nr b) ||| ((1 : Int32) <<< (nI a &&& 31)) else if i = a then nr a ||| ((1 : Int32) <<< (nI b &&& 31)) else nr i
def alJ (al : Nat → Int32) (a b : Nat) : Nat → Int32 := fun s => if s < 10 ∧ bt (al a ||| al b) s = true then al a ||| al b else al s
theorem nrJ_bt {nr : Nat → Int32} {a b : Nat} (ha : a < 10) (hb : b < 10) {i j : Nat} : bt (nrJ nr a b i) j = true ↔ (bt (nr i) j = true ∨ (i = a ∧ j = b) ∨ (i = b ∧ j = a)) := by
  unfold nrJ
  by_cases h1 : i = b
  · rw [if_pos h1]
    by_cases h2 : b = a
    · rw [if_pos h2, b_or, b_or, b_one (by omega), b_one (by omega)]
      subst h1; subst h2
      simp
    · rw [if_neg h2, b_or, b_one (by omega)]
      have h3 : i ≠ a := fun z => h2 (h1.symm.trans z)
      subst h1
      simp [h3]
  · rw [if_neg h1]
    by_cases h2 : i = a
    · rw [if_pos h2, b_or, b_one (by omega)]
      subst h2
      simp [h1]
    · rw [if_neg h2]
      simp [h1, h2]
theorem AL_join {nr al : Nat → Int32} (h : AL nr al) {a b : Nat} (ha : a < 10) (hb : b < 10) : AL (nrJ nr a b) (alJ al a b) := by
  obtain ⟨hN, hA⟩ := h
  have hN' : Nr (nrJ nr a b) := by
    constructor
    · intro i j hi hj
      rw [nrJ_bt ha hb] at hj
      rcases hj with h | ⟨-, h⟩ | ⟨-, h⟩
      · exact hN.1 i j hi h
      · omega
      · omega
    · intro i j hi hj h
      rw [nrJ_bt ha hb] at h ⊢
      rcases h with h | ⟨h1, h2⟩ | ⟨h1, h2⟩
      · exact Or.inl (hN.2 i j hi hj h)
      · exact Or.inr (Or.inr ⟨h2, h1⟩)
      · exact Or.inr (Or.inl ⟨h2, h1⟩)
  refine ⟨hN', fun s j hs => ?_⟩
  have hm : ∀ x, bt (al a ||| al b) x = true ↔ (Cn nr a x ∨ Cn nr b x) := fun x => by
    rw [b_or, Bool.or_eq_true, hA a x ha, hA b x hb]
  have mono : ∀ {i j}, Cn nr i j → Cn (nrJ nr a b) i j := fun h => Cn.mono (fun k l _ hb' => (nrJ_bt ha hb).mpr (Or.inl hb')) h
  have eab : Cn (nrJ nr a b) a b := Cn.step Cn.rfl ha ((nrJ_bt ha hb).mpr (Or.inr (Or.inl ⟨rfl, rfl⟩)))
  have eba : Cn (nrJ nr a b) b a := Cn.step Cn.rfl hb ((nrJ_bt ha hb).mpr (Or.inr (Or.inr ⟨rfl, rfl⟩)))
  have key : Cn (nrJ nr a b) s j ↔ (Cn nr s j ∨ ((Cn nr a s ∨ Cn nr b s) ∧ (Cn nr a j ∨ Cn nr b j))) := by
    constructor
    · intro hc
      refine hc (fun x => Cn nr s x ∨ ((Cn nr a s ∨ Cn nr b s) ∧ (Cn nr a x ∨ Cn nr b x))) (Or.inl Cn.rfl) ?_
      intro k l hk hp hb'
      rw [nrJ_bt ha hb] at hb'
      rcases hb' with e | ⟨e1, e2⟩ | ⟨e1, e2⟩
      · rcases hp with h | ⟨h1, h2 | h2⟩
        · exact Or.inl (h.step hk e)
        · exact Or.inr ⟨h1, Or.inl (h2.step hk e)⟩
        · exact Or.inr ⟨h1, Or.inr (h2.step hk e)⟩
      · subst e1; subst e2
        rcases hp with h | ⟨h1, -⟩
        · exact Or.inr ⟨Or.inl (h.symm hN hs), Or.inr Cn.rfl⟩
        · exact Or.inr ⟨h1, Or.inr Cn.rfl⟩
      · subst e1; subst e2
        rcases hp with h | ⟨h1, -⟩
        · exact Or.inr ⟨Or.inr (h.symm hN hs), Or.inl Cn.rfl⟩
        · exact Or.inr ⟨h1, Or.inl Cn.rfl⟩
    · rintro (h | ⟨h1, h2⟩)
      · exact mono h
      · have hsa : Cn (nrJ nr a b) s a := by
          rcases h1 with h | h
          · exact (mono h).symm hN' ha
          · exact ((mono h).symm hN' hb).trans eba
        rcases h2 with h | h
        · exact hsa.trans (mono h)
        · exact (hsa.trans eab).trans (mono h)
  unfold alJ
  by_cases c : bt (al a ||| al b) s = true
  · rw [if_pos ⟨hs, c⟩, hm j, key]
    have h1 := (hm s).mp c
    constructor
    · intro h; exact Or.inr ⟨h1, h⟩
    · rintro (h | h)
      · rcases h1 with h1 | h1
        · exact Or.inl (h1.trans h)
        · exact Or.inr (h1.trans h)
      · exact h.2
  · rw [if_neg (fun z => c z.2), hA s j hs, key]
    constructor
    · exact Or.inl
    · rintro (h | h)
      · exact h
      · exact absurd ((hm s).mpr h.1) c
theorem AL_new : AL (fun _ => 0) (fun s => (1 : Int32) <<< (nI s &&& 31)) := by
  refine ⟨⟨fun i j _ h => (by rw [b_0] at h; cases h), fun i j _ _ h => (by rw [b_0] at h; cases h)⟩, fun s j hs => ?_⟩
  rw [b_one (by omega)]
  constructor
  · intro h
    have : j = s := by simpa using h
    subst this
    exact Cn.rfl
  · intro h
    refine h (fun x => decide (x = s) = true) (by simp) ?_
    intro k l _ _ hb
    rw [b_0] at hb
    cases hb
theorem AL.cong {nr nr' al al' : Nat → Int32} (h : AL nr al) (h1 : ∀ i, i < 10 → nr' i = nr i) (h2 : ∀ i, i < 10 → al' i = al i) : AL nr' al' := by
  have hc : ∀ {i j}, Cn nr i j ↔ Cn nr' i j := ⟨Cn.mono fun k l hk hb => by rw [h1 k hk]; exact hb, Cn.mono fun k l hk hb => by rw [h1 k hk] at hb; exact hb⟩
  refine ⟨⟨fun i j hi hb => h.1.1 i j hi (by rw [h1 i hi] at hb; exact hb), fun i j hi hj hb => ?_⟩, fun s j hs => by rw [h2 s hs, h.2 s j hs]; exact hc⟩
  rw [h1 j hj]
  rw [h1 i hi] at hb
  exact h.1.2 i j hi hj hb
/-! a pile -/
def sSum (c : Nat → Bool) (f : Nat → Int32) : Nat → Int32
  | 0 => 0
  | k + 1 => if c k = true then sSum c f k + f k else sSum c f k
theorem sSum_s {c : Nat → Bool} {f : Nat → Int32} {k : Nat} : sSum c f (k + 1) = if c k = true then sSum c f k + f k else sSum c f k := rfl
def sPile (cm : Nat → Int32) (b : Int32) (x : Nat → Int32) : Int32 := mLess (sSum (bt b) (fun k => x k + cm k) 10) 60
theorem pileAt_e {σ : MSt} {al : Nat → Int32} {p s : Nat} (hA : AL (σ.2.1 15) al) (hp : p < 10) (hs : s < 10) : dX4_pileAt σ (nI p) (nI s) = some (sPile (σ.2.1 14) (al s) (σ.2.2 39 p)) := by
  apply wp_eq
  unfold dX4_pileAt
  rw [alike_e hA hs, wt_bd_s, wp_bd]
  refine wp_for 10 0 (fun k v => v = (sSum (bt (al s)) (fun k => σ.2.2 39 p k + σ.2.1 14 k) k, nI k)) (by omega) rfl ?_ ?_
  · rintro k w hk rfl
    unfold bX4_pileAt_1
    have h1 : ¬ 10 ≤ k := by omega
    simp (disch := omega) only [wp_ite, q_10, nI_leI, h1, if_false, b_test]
    by_cases c : bt (al s) k = true
    · rw [if_pos c]
      simp (disch := omega) only [wp_ck, wp_lt, wp_some, vp_nI, hk, hp, true_and, lpo_l, nI_1, nI_clamp]
      rw [sSum_s, if_pos c]
    · rw [if_neg c]
      simp (disch := omega) only [wp_lt, wp_some, lpo_l, nI_1]
      rw [sSum_s, if_neg c, Int32.add_zero]
  · rintro w rfl
    unfold bX4_pileAt_1
    simp (disch := omega) only [wp_ite, q_10, nI_leI, Nat.le_refl, if_true, wp_some, lpo_r, wp_bd, less_e]
    rfl
/-- an int within bounds -/
def In (x : Int32) (n : Nat) : Prop := 0 ≤ x.toInt ∧ x.toInt ≤ n
theorem In.ix {x : Int32} {n : Nat} (h : In x n) (hn : n < 2 ^ 31 - 1) : ∃ k, k ≤ n ∧ x = nI k := by
  obtain ⟨k, hk, e⟩ := (Ix_i (n := n + 1) (by omega)).mpr ⟨h.1, by have := h.2; omega⟩
  exact ⟨k, by omega, e⟩
theorem In.of {k n : Nat} (h : k ≤ n) (hn : n < 2 ^ 31) : In (nI k) n := ⟨by rw [nI_toInt (by omega)]; omega, by rw [nI_toInt (by omega)]; omega⟩
theorem In.wide {x : Int32} {n m : Nat} (h : In x n) (hm : n ≤ m) : In x m := ⟨h.1, by have := h.2; omega⟩
theorem In_less {x : Int32} {n : Nat} (h : 0 ≤ x.toInt) (hn : n < 2 ^ 31) : In (mLess x (nI n)) n := by
  unfold mLess
  split
  · exact In.of (Nat.le_refl _) hn
  · rename_i c
    rw [i_le, nI_toInt hn] at c
    exact ⟨h, by omega⟩
theorem sSum_in {c : Nat → Bool} {f : Nat → Int32} {b : Nat} (hb : b < 100000) : ∀ k, k ≤ 10 → (∀ j, j < k → In (f j) b) → In (sSum c f k) (k * b) := by
  intro k
  induction k with
  | zero =>
    intro _ _
    refine ⟨?_, ?_⟩
    · show 0 ≤ (0 : Int32).toInt
      decide
    · rw [Nat.zero_mul]
      show (0 : Int32).toInt ≤ _
      decide
  | succ k ih =>
    intro hk hf
    have h1 := ih (by omega) fun j hj => hf j (by omega)
    have h2 := hf k (by omega)
    have h3 : k * b ≤ 9 * b := Nat.mul_le_mul_right b (by omega)
    have h4 : (k + 1) * b = k * b + b := Nat.succ_mul k b
    rw [sSum_s]
    split
    · obtain ⟨a1, a2⟩ := h1
      obtain ⟨a3, a4⟩ := h2
      constructor
      · rw [i_add (by omega) (by omega)]; omega
      · rw [i_add (by omega) (by omega), h4]; omega
    · exact ⟨h1.1, (by have := h1.2; rw [h4]; omega)⟩
theorem sPile_in {cm x : Nat → Int32} {b : Int32} (hx : ∀ k, k < 10 → In (x k) 9999) (hc : ∀ k, k < 10 → In (cm k) 20) : In (sPile cm b x) 60 := by
  refine In_less (sSum_in (b := 10019) (by omega) 10 (Nat.le_refl _) fun j hj => ?_).1 (by decide)
  have h1 := hx j hj
  have h2 := hc j hj
  obtain ⟨a1, a2⟩ := h1
  obtain ⟨a3, a4⟩ := h2
  constructor
  · rw [i_add (by omega) (by omega)]; omega
  · rw [i_add (by omega) (by omega)]; omega
/-! THE PLAIN LAW, 7: bounds of what lies; the model's number of a story -/
set_option maxRecDepth 100000
def LwB (w : LW) : Prop := In w.1 16 ∧ In w.2.1 8 ∧ (∀ g s, g < 8 → s < 10 → In (w.2.2.1 g s) 200) ∧ ∀ s, s < 10 → In (w.2.2.2 s) 16
def ScB (x : Sc) : Prop := ∀ i j, i < 10 → j < 10 → In (x.1 i j) 9999
theorem frac {u p : Int32} (hu : In u 9999) (hp : In p 16) : In (u * p / 16) 9999 ∧ (u * p / 16).toInt ≤ u.toInt := by
  obtain ⟨k, hk, e⟩ := hu.ix (by omega)
  subst e
  obtain ⟨q, hq, e⟩ := hp.ix (by omega)
  subst e
  have h1 : k * q ≤ 9999 * 16 := Nat.mul_le_mul hk hq
  have h2 : k * q / 16 ≤ k := Nat.div_le_of_le_mul (by rw [Nat.mul_comm 16 k]; exact Nat.mul_le_mul_left k hq)
  have e : nI k * nI q / 16 = nI (k * q / 16) := by
    rw [pk_mul]
    exact pk_div (d := 16) (by omega) (by omega) (by omega)
  rw [e]
  refine ⟨In.of (by omega) (by omega), ?_⟩
  rw [nI_toInt (by omega), nI_toInt (by omega)]
  omega
theorem sFrom_in {sh : Nat → Nat → Int32} {w : Int32} {s : Nat} (hsh : ∀ g s, g < 8 → s < 10 → In (sh g s) 200) (hs : s < 10) (hw : w = -1 ∨ Ix w 8) : In (sFrom sh w s) 200 := by
  unfold sFrom
  by_cases h : w = -1
  · rw [if_pos h]; exact ⟨by decide, by decide⟩
  · rw [if_neg h]
    rcases hw with h2 | ⟨k, hk, e⟩
    · exact absurd h2 h
    · rw [e, nI_clamp (by omega)]
      exact hsh k s hk hs
theorem sA_in {ps u v w : Int32} (hp : In ps 8) (hu : In u 9999) (hv : In v 9999) (hw : In w 200) : In (sA ps u v w) 9999 := by
  have h1 := frac hu (hp.wide (show 8 ≤ 16 by omega))
  have h2 := frac hv (hp.wide (show 8 ≤ 16 by omega))
  obtain ⟨a1, a2⟩ := hu
  obtain ⟨b1, b2⟩ := hv
  obtain ⟨c1, c2⟩ := hw
  obtain ⟨⟨d1, d2⟩, d3⟩ := h1
  obtain ⟨⟨e1, e2⟩, e3⟩ := h2
  unfold sA
  rw [less_min]
  refine In_less (n := 9999) ?_ (by omega)
  rw [i_add (by rw [i_add (by rw [i_sub (by omega) (by omega)]; omega) (by rw [i_sub (by omega) (by omega)]; omega), i_sub (by omega) (by omega)]; omega) (by rw [i_add (by rw [i_sub (by omega) (by omega)]; omega) (by rw [i_sub (by omega) (by omega)]; omega), i_sub (by omega) (by omega)]; omega), i_add (by rw [i_sub (by omega) (by omega)]; omega) (by rw [i_sub (by omega) (by omega)]; omega), i_sub (by omega) (by omega)]
  omega
theorem ScB_touch {w : LW} {x : Sc} {a b : Nat} (hw : LwB w) (hx : ScB x) (hW : ScW x) (ha : a < 10) (hb : b < 10) : ScB (sTouchK w.2.1 w.2.2.1 x a b 10) := by
  intro i j hi hj
  show In (if _ then _ else (if _ then _ else _)) 9999
  split
  · exact sA_in hw.2.1 (hx b j hb hj) (hx a j ha hj) (sFrom_in hw.2.2.1 hj (hW a ha))
  · split
    · exact sA_in hw.2.1 (hx a j ha hj) (hx b j hb hj) (sFrom_in hw.2.2.1 hj (hW b hb))
    · exact hx i j hi hj
theorem ScB_stay {x : Sc} {p : Nat} {n : Int32} (hp : p < 10) (hn : In n 16) (hx : ScB x) : ScB (sStayK x p n 10) := by
  intro i j hi hj
  show In (if _ then _ else _) 9999
  split
  · exact (frac (hx p j hp hj) hn).1
  · exact hx i j hi hj
theorem Ix.in {a : Int32} {n : Nat} (h : Ix a (n + 1)) (hn : n < 2 ^ 31) : In a n := by
  obtain ⟨k, hk, e⟩ := h
  subst e
  exact In.of (by omega) hn
theorem ScB_do {w : LW} {e : Nat → Int32} {x : Sc} (he : EvOk e) (hw : LwB w) (hW : ScW x) (hx : ScB x) : ScB (sDo w e x) := by
  obtain ⟨⟨p, hp, ep⟩, hk, -⟩ := he
  have hc : (e 1).toNatClampNeg = p := by rw [ep]; exact nI_clamp (by omega)
  unfold sDo
  rw [hc]
  split
  · exact hx
  · split
    · exact hx
    · split
      · rename_i h0 h1 h2
        rcases hk with ⟨h, _⟩ | h | ⟨h, o, ho, eo⟩ | h | ⟨h, _⟩
        · exact absurd h h0
        · exact absurd h h1
        · rw [eo, nI_clamp (by omega)]
          exact ScB_touch hw hx hW hp ho
        · rw [h] at h2; exact absurd h2 (by decide)
        · rw [h] at h2; exact absurd h2 (by decide)
      · split
        · exact ScB_stay hp hw.1 hx
        · split
          · rename_i h0 h1 h2 h3 h4
            rcases hk with ⟨h, _⟩ | h | ⟨h, _⟩ | h | ⟨h, hn⟩
            · exact absurd h h0
            · exact absurd h h1
            · exact absurd h h2
            · exact absurd h h3
            · exact ScB_stay hp (Ix.in hn (by omega)) hx
          · exact hx
theorem sEvs_B {w : LW} {ev : Nat → Nat → Int32} {kp : Nat → Bool} {h m : Nat} (hw : LwB w) (he : ∀ k, k < m → EvOk (ev k)) : ∀ (n k : Nat) (x : Sc), n + k = m → ScW x → ScB x → ScB (sEvs w ev kp h n k x).2 := by
  intro n
  induction n with
  | zero => intro k x _ _ hx; exact hx
  | succ n ih =>
    intro k x hk hW hx
    unfold sEvs
    by_cases c : ev k 3 = nI h
    · rw [if_pos c]
      by_cases c2 : kp k = true
      · rw [if_pos c2]; exact ih (k + 1) _ (by omega) (ScW_do (he k (by omega)) hW) (ScB_do (he k (by omega)) hw hW hx)
      · rw [if_neg c2]; exact ih (k + 1) _ (by omega) hW hx
    · rw [if_neg c]; exact hx
def MoOk (mo : Option (Nat × Nat × Nat)) : Prop := ∀ a b t, mo = some (a, b, t) → a < 10 ∧ b < 10
theorem sMore_B {w : LW} {mo : Option (Nat × Nat × Nat)} {h : Nat} {x : Sc} (hm : MoOk mo) (hw : LwB w) (hW : ScW x) (hx : ScB x) : ScB (sMore w mo h x) := by
  unfold sMore
  split
  · exact hx
  · rename_i a b t
    obtain ⟨ha, hb⟩ := hm a b t rfl
    split
    · exact ScB_touch hw hx hW ha hb
    · exact hx
theorem sRun_B {w : LW} {m : Nat} {ev : Nat → Nat → Int32} {kp : Nat → Bool} {mo : Option (Nat × Nat × Nat)} {x0 : Sc} (hm : MoOk mo) (hw : LwB w) (he : ∀ k, k < m → EvOk (ev k)) : ∀ h, ScB (sRun w m ev kp mo x0 h).2 := by
  intro h
  induction h with
  | zero =>
    intro i j hi hj
    show In (if _ then _ else _) 9999
    rw [if_pos ⟨Or.inl hi, hj⟩]
    exact ⟨by decide, by decide⟩
  | succ h ih =>
    obtain ⟨hW, hk⟩ := sRun_ok (w := w) (kp := kp) (mo := mo) (x0 := x0) he h
    have h1 : ScW (if h = 0 then (sRun w m ev kp mo x0 h).2 else sHourK w.2.2.2 (sRun w m ev kp mo x0 h).2 10 0) := by
      by_cases c : h = 0
      · rw [if_pos c]; exact hW
      · rw [if_neg c]; exact hW
    have h2 : ScB (if h = 0 then (sRun w m ev kp mo x0 h).2 else sHourK w.2.2.2 (sRun w m ev kp mo x0 h).2 10 0) := by
      by_cases c : h = 0
      · rw [if_pos c]; exact ih
      · rw [if_neg c]
        intro i j hi hj
        show In (if _ then _ else _) 9999
        split
        · exact (frac (ih i j hi hj) (hw.2.2.2 j hj)).1
        · exact ih i j hi hj
    obtain ⟨h3, -, -⟩ := sEvs_ok (w := w) (kp := kp) (h := h) he (m - (sRun w m ev kp mo x0 h).1) (sRun w m ev kp mo x0 h).1 _ (by omega) h1
    exact sMore_B hm hw h3 (sEvs_B hw he (m - (sRun w m ev kp mo x0 h).1) (sRun w m ev kp mo x0 h).1 _ (by omega) h1 h2)
/-! what lies outside the ten places and sorts does not matter -/
def ScE (x y : Sc) : Prop := (∀ i j, i < 10 → j < 10 → x.1 i j = y.1 i j) ∧ ∀ i, i < 10 → x.2 i = y.2 i
theorem ScE_touch {ps : Int32} {sh : Nat → Nat → Int32} {x y : Sc} {a b : Nat} (h : ScE x y) (ha : a < 10) (hb : b < 10) : ScE (sTouchK ps sh x a b 10) (sTouchK ps sh y a b 10) := by
  refine ⟨fun i j hi hj => ?_, h.2⟩
  show (if _ then _ else (if _ then _ else _)) = (if _ then _ else (if _ then _ else _))
  rw [h.1 a j ha hj, h.1 b j hb hj, h.1 i j hi hj, h.2 a ha, h.2 b hb]
theorem ScE_stay {x y : Sc} {p : Nat} {n : Int32} (h : ScE x y) (hp : p < 10) : ScE (sStayK x p n 10) (sStayK y p n 10) := by
  refine ⟨fun i j hi hj => ?_, h.2⟩
  show (if _ then _ else _) = (if _ then _ else _)
  rw [h.1 p j hp hj, h.1 i j hi hj]
theorem ScE_wr {x y : Sc} {p : Nat} {n : Int32} (h : ScE x y) : ScE (sWr x p n) (sWr y p n) := by
  refine ⟨h.1, fun i hi => ?_⟩
  show (if _ then _ else _) = (if _ then _ else _)
  rw [h.2 i hi]
theorem ScE_do {w : LW} {e : Nat → Int32} {x y : Sc} (he : EvOk e) (h : ScE x y) : ScE (sDo w e x) (sDo w e y) := by
  obtain ⟨⟨p, hp, ep⟩, hk, -⟩ := he
  have hc : (e 1).toNatClampNeg = p := by rw [ep]; exact nI_clamp (by omega)
  unfold sDo
  rw [hc]
  by_cases h0 : e 0 = 0
  · rw [if_pos h0, if_pos h0]; exact ScE_wr h
  · rw [if_neg h0, if_neg h0]
    by_cases h1 : e 0 = 1
    · rw [if_pos h1, if_pos h1]; exact ScE_wr h
    · rw [if_neg h1, if_neg h1]
      by_cases h2 : e 0 = 2
      · rw [if_pos h2, if_pos h2]
        rcases hk with ⟨z, _⟩ | z | ⟨z, o, ho, eo⟩ | z | ⟨z, _⟩
        · exact absurd z h0
        · exact absurd z h1
        · rw [eo, nI_clamp (by omega)]; exact ScE_touch h hp ho
        · rw [z] at h2; exact absurd h2 (by decide)
        · rw [z] at h2; exact absurd h2 (by decide)
      · rw [if_neg h2, if_neg h2]
        by_cases h3 : e 0 = 3
        · rw [if_pos h3, if_pos h3]; exact ScE_stay h hp
        · rw [if_neg h3, if_neg h3]
          by_cases h4 : e 0 = 4
          · rw [if_pos h4, if_pos h4]; exact ScE_stay h hp
          · rw [if_neg h4, if_neg h4]; exact h
theorem ScE_evs {w : LW} {ev : Nat → Nat → Int32} {kp : Nat → Bool} {h m : Nat} (he : ∀ k, k < m → EvOk (ev k)) : ∀ (n k : Nat) (x y : Sc), n + k = m → ScE x y → (sEvs w ev kp h n k x).1 = (sEvs w ev kp h n k y).1 ∧ ScE (sEvs w ev kp h n k x).2 (sEvs w ev kp h n k y).2 := by
  intro n
  induction n with
  | zero => intro k x y _ hx; exact ⟨rfl, hx⟩
  | succ n ih =>
    intro k x y hk hx
    unfold sEvs
    by_cases c : ev k 3 = nI h
    · rw [if_pos c, if_pos c]
      by_cases c2 : kp k = true
      · rw [if_pos c2, if_pos c2]; exact ih (k + 1) _ _ (by omega) (ScE_do (he k (by omega)) hx)
      · rw [if_neg c2, if_neg c2]; exact ih (k + 1) _ _ (by omega) hx
    · rw [if_neg c, if_neg c]; exact ⟨rfl, hx⟩
theorem ScE_run {w : LW} {m : Nat} {ev : Nat → Nat → Int32} {kp : Nat → Bool} {mo : Option (Nat × Nat × Nat)} {x0 y0 : Sc} (hm : MoOk mo) (he : ∀ k, k < m → EvOk (ev k)) : ∀ h, (sRun w m ev kp mo x0 h).1 = (sRun w m ev kp mo y0 h).1 ∧ ScE (sRun w m ev kp mo x0 h).2 (sRun w m ev kp mo y0 h).2 := by
  intro h
  induction h with
  | zero =>
    refine ⟨rfl, fun i j hi hj => ?_, fun i hi => ?_⟩
    · show (if _ then _ else _) = (if _ then _ else _)
      rw [if_pos ⟨Or.inl hi, hj⟩, if_pos ⟨Or.inl hi, hj⟩]
    · show (if _ then _ else _) = (if _ then _ else _)
      rw [if_pos hi, if_pos hi]
  | succ h ih =>
    obtain ⟨-, hk⟩ := sRun_ok (w := w) (kp := kp) (mo := mo) (x0 := y0) he h
    have h2 : ScE (if h = 0 then (sRun w m ev kp mo x0 h).2 else sHourK w.2.2.2 (sRun w m ev kp mo x0 h).2 10 0) (if h = 0 then (sRun w m ev kp mo y0 h).2 else sHourK w.2.2.2 (sRun w m ev kp mo y0 h).2 10 0) := by
      by_cases c : h = 0
      · rw [if_pos c, if_pos c]; exact ih.2
      · rw [if_neg c, if_neg c]
        refine ⟨fun i j hi hj => ?_, ih.2.2⟩
        show (if _ then _ else _) = (if _ then _ else _)
        rw [ih.2.1 i j hi hj]
    have h3 := ScE_evs (w := w) (kp := kp) (h := h) he (m - (sRun w m ev kp mo y0 h).1) (sRun w m ev kp mo y0 h).1 _ _ (by omega) h2
    unfold sRun
    rw [ih.1]
    refine ⟨h3.1, ?_⟩
    show ScE (sMore w mo h _) (sMore w mo h _)
    unfold sMore
    split
    · exact h3.2
    · rename_i a b t
      obtain ⟨ha, hb⟩ := hm a b t rfl
      split
      · exact ScE_touch h3.2 ha hb
      · exact h3.2
def sc0 : Sc := (fun _ _ => 0, fun _ => -1)
/-- what lies as the hour h is over -/
def nRun (w : LW) (m : Nat) (ev : Nat → Nat → Int32) (kp : Nat → Bool) (mo : Option (Nat × Nat × Nat)) (h : Nat) : Sc := (sRun w m ev kp mo sc0 (h + 1)).2
theorem sSum_cong {c : Nat → Bool} {f g : Nat → Int32} : ∀ k, (∀ j, j < k → f j = g j) → sSum c f k = sSum c g k := by
  intro k
  induction k with
  | zero => intro _; rfl
  | succ k ih =>
    intro h
    show (if _ then _ else _) = (if _ then _ else _)
    rw [ih fun j hj => h j (by omega), h k (by omega)]
theorem sPile_cong {cm x y : Nat → Int32} {b : Int32} (h : ∀ j, j < 10 → x j = y j) : sPile cm b x = sPile cm b y := by
  unfold sPile
  rw [sSum_cong 10 fun j hj => by rw [h j hj]]
/-! a find (place, hour, sort, many) -/
def FdOk (r : Nat → Int32) : Prop := Ix (r 0) 10 ∧ Ix (r 1) 100 ∧ Ix (r 2) 10 ∧ Ix (r 3) 61
/-- the pile that a find was taken from, by the run R -/
def fPile (cm al : Nat → Int32) (R : Nat → Sc) (r : Nat → Int32) : Nat := (sPile cm (al (r 2).toNatClampNeg) ((R (r 1).toNatClampNeg).1 (r 0).toNatClampNeg)).toNatClampNeg
theorem fPile_le {cm al : Nat → Int32} {R : Nat → Sc} {r : Nat → Int32} (hr : FdOk r) (hc : ∀ k, k < 10 → In (cm k) 20) (hR : ∀ h, ScB (R h)) : fPile cm al R r ≤ 60 ∧ sPile cm (al (r 2).toNatClampNeg) ((R (r 1).toNatClampNeg).1 (r 0).toNatClampNeg) = nI (fPile cm al R r) := by
  obtain ⟨⟨p, hp, ep⟩, -, -, -⟩ := hr
  have hpc : (r 0).toNatClampNeg = p := by rw [ep]; exact nI_clamp (by omega)
  have h := sPile_in (cm := cm) (b := al (r 2).toNatClampNeg) (x := (R (r 1).toNatClampNeg).1 p) (fun k hk => hR _ p k hp hk) hc
  obtain ⟨n, hn, e⟩ := h.ix (by omega)
  unfold fPile
  rw [hpc, e, nI_clamp (by omega)]
  exact ⟨hn, rfl⟩
theorem bd_a {N a c : Nat} (hN : N ≤ 16 ^ 420) (ha : a ≤ 16 ^ 15) (hc : c ≤ 16 ^ 2) : N * a * c < 10000 ^ 330 := by
  refine Nat.lt_of_le_of_lt (Nat.mul_le_mul (Nat.mul_le_mul hN ha) hc) ?_
  rw [← Nat.pow_add, ← Nat.pow_add]
  exact Nat.lt_of_le_of_lt (p16 (by omega)) big_330
theorem bd_b {N a b c : Nat} (hN : N ≤ 16 ^ 420) (ha : a ≤ 16 ^ 15) (hb : b ≤ 16 ^ 60) (hc : c ≤ 16 ^ 2) : N * a * b * c < 10000 ^ 330 := by
  refine Nat.lt_of_le_of_lt (Nat.mul_le_mul (Nat.mul_le_mul (Nat.mul_le_mul hN ha) hb) hc) ?_
  rw [← Nat.pow_add, ← Nat.pow_add, ← Nat.pow_add]
  exact Nat.lt_of_le_of_lt (p16 (by omega)) big_330
theorem ch_15 {n k : Nat} (hn : n ≤ 60) : ch n k ≤ 16 ^ 15 := by
  refine Nat.le_trans (ch_pow n k) (Nat.le_trans (Nat.pow_le_pow_right (by omega) hn) ?_)
  exact (by decide +kernel : 2 ^ 60 ≤ 16 ^ 15)
theorem mcounts {σ : MSt} {b k n t N : Nat} (hb : b < 3) (hk : k ≤ 60) (hn : n ≤ 60) (ht : σ.1 11 = nI t) (ht2 : t ≤ 16) (hB : Bg (σ.2.2 48 b) N) (hN : N ≤ 16 ^ 420) : wp (dX4_countsIn σ (nI b) (nI k) (nI n)) (fun σ' => mE [49] [] [48] σ σ' ∧ σ'.1 49 = σ.1 49 + nI n ∧ Bg (σ'.2.2 48 b) (N * fct n k t) ∧ ∀ i, i ≠ b → σ'.2.2 48 i = σ.2.2 48 i) := by
  unfold dX4_countsIn
  rw [wp_lt]
  have hE : mE [49] [] [48] σ (m_sF σ 49 (σ.1 49 + nI n)) := mE_sF (by simp)
  have h49 : (m_sF σ 49 (σ.1 49 + nI n)).1 49 = σ.1 49 + nI n := by rw [sF_1, if_pos rfl]
  have hB1 : Bg ((m_sF σ 49 (σ.1 49 + nI n)).2.2 48 b) N := hB
  have ht1 : (m_sF σ 49 (σ.1 49 + nI n)).1 11 = nI t := by rw [sF_1, if_neg (by omega)]; exact ht
  have hrow : ∀ i, (m_sF σ 49 (σ.1 49 + nI n)).2.2 48 i = σ.2.2 48 i := fun i => rfl
  generalize m_sF σ 49 (σ.1 49 + nI n) = s1 at hE h49 hB1 ht1 hrow
  by_cases c : k ≤ n
  · rw [wp_ite, if_pos (by rw [nI_leI (by omega) (by omega)]; exact c)]
    have key1 : wp (wt_whC (bX4_countsIn_1 (nI b) (nI k) (nI n)) ((0 : Int32), s1)) (fun s => mB b s1 s ∧ Bg (s.2.2 48 b) (N * ch n k)) := by
      refine wp_for k 0 (fun i v => ∃ s, v = (nI i, s) ∧ mB b s1 s ∧ Bg (s.2.2 48 b) (N * ch n i)) (by omega) ⟨s1, rfl, mB.rfl, by rw [ch_0, Nat.mul_one]; exact hB1⟩ ?_ ?_
      · rintro i w hi ⟨s, rfl, hs, hbs⟩
        unfold bX4_countsIn_1
        have hg : ¬ k ≤ i := by omega
        rw [wp_ite, if_neg (by rw [nI_leI (by omega) (by omega)]; exact hg)]
        show wp (wt_bd (dX4_times s (nI b) (nI n - nI i)) _) _
        rw [pk_sub (by omega)]
        refine wp_ap (mtimes hb (by omega) hbs (bd_a hN (ch_15 hn) (p256 (by omega)))) fun s2 h2 => ?_
        show wp (wt_bd (dX4_parts s2 (nI b) (nI i + 1)) _) _
        rw [nI_1]
        refine wp_ap (mparts hb (by omega) (by omega) h2.2) fun s3 h3 => ?_
        rw [wp_lt, wp_some, lpo_l]
        refine ⟨s3, rfl, (hs.trans h2.1).trans h3.1, ?_⟩
        have e : N * ch n i * (n - i) / (i + 1) = N * ch n (i + 1) := by
          rw [Nat.mul_assoc, ← ch_on, ← Nat.mul_assoc, Nat.mul_div_cancel _ (by omega)]
        rw [← e]
        exact h3.2
      · rintro w ⟨s, rfl, hs, hbs⟩
        unfold bX4_countsIn_1
        rw [wp_ite, if_pos (by rw [nI_leI (by omega) (by omega)]; exact Nat.le_refl _), wp_some, lpo_r]
        exact ⟨hs, hbs⟩
    refine wp_ap key1 fun s2 h2 => ?_
    have key2 : wp (wt_whC (bX4_countsIn_2 (nI b) (nI k) (nI n)) ((0 : Int32), s2)) (fun s => mB b s2 s ∧ Bg (s.2.2 48 b) (N * fct n k t)) := by
      refine wp_for n 0 (fun i v => ∃ s, v = (nI i, s) ∧ mB b s2 s ∧ Bg (s.2.2 48 b) (N * ch n k * pre n k t i)) (by omega) ⟨s2, rfl, mB.rfl, by rw [pre_0, Nat.mul_one]; exact h2.2⟩ ?_ ?_
      · rintro i w hi ⟨s, rfl, hs, hbs⟩
        unfold bX4_countsIn_2
        have hg : ¬ n ≤ i := by omega
        have hts : s.1 11 = nI t := by rw [hs.1, h2.1.1]; exact ht1
        have hw : (if nI k ≤ nI i then (some ((16 : Int32) - (s.1 11))) else (some (s.1 11))) = some (nI (if k ≤ i then 16 - t else t)) := by
          rw [hts]
          by_cases c2 : k ≤ i
          · rw [if_pos (by rw [nI_leI (by omega) (by omega)]; exact c2), if_pos c2, show (16 : Int32) - nI t = nI (16 - t) from pk_sub ht2]
          · rw [if_neg (by rw [nI_leI (by omega) (by omega)]; exact c2), if_neg c2]
        have hc16 : (if k ≤ i then 16 - t else t) ≤ 16 := by split <;> omega
        rw [wp_ite, if_neg (by rw [nI_leI (by omega) (by omega)]; exact hg)]
        show wp (wt_bd (if nI k ≤ nI i then (some ((16 : Int32) - (s.1 11))) else (some (s.1 11))) _) _
        rw [hw, wt_bd_s]
        refine wp_ap (mtimes hb (by omega) hbs (bd_b hN (ch_15 hn) (Nat.le_trans (pre_le ht2) (p16 (by omega))) (p256 (by omega)))) fun s3 h3 => ?_
        rw [wp_lt, wp_some, lpo_l, nI_1]
        refine ⟨s3, rfl, hs.trans h3.1, ?_⟩
        rw [pre_s, ← Nat.mul_assoc]
        exact h3.2
      · rintro w ⟨s, rfl, hs, hbs⟩
        unfold bX4_countsIn_2
        rw [wp_ite, if_pos (by rw [nI_leI (by omega) (by omega)]; exact Nat.le_refl _), wp_some, lpo_r]
        refine ⟨hs, ?_⟩
        rw [← pre_n c, ← Nat.mul_assoc]
        exact hbs
    refine wp_ap key2 fun s3 h3 => ?_
    rw [wp_some]
    refine ⟨(hE.trans h2.1.G).trans h3.1.G, ?_, h3.2, fun i hi => ?_⟩
    · rw [h3.1.1, h2.1.1]; exact h49
    · rw [h3.1.row hi, h2.1.row hi]; exact hrow i
  · rw [wp_ite, if_neg (by rw [nI_leI (by omega) (by omega)]; exact c)]
    refine wp_ap (mtimes (c := 0) hb (by omega) hB1 (by rw [Nat.mul_zero]; exact Nat.pow_pos (by omega))) fun s2 h2 => ?_
    rw [wp_some]
    refine ⟨hE.trans h2.1.G, ?_, ?_, fun i hi => ?_⟩
    · rw [h2.1.1]; exact h49
    · unfold fct
      rw [if_neg c]
      exact h2.2
    · rw [h2.1.row hi]; exact hrow i
/-! what stays through a question -/
theorem lwOf_E {σ σ' : MSt} (h : mE [0, 41, 42, 43, 44, 45, 46, 47, 49] [40] [39, 48] σ σ') : lwOf σ' = lwOf σ := by
  unfold lwOf
  rw [h.1 9 (by decide), h.1 10 (by decide), h.2.2 12 (by decide), h.2.1 13 (by decide)]
/-- the law and the finds that stand: al: bits of what is alike; t of 16 are taken; nf finds -/
def MLaw (σ : MSt) (al : Nat → Int32) (t nf : Nat) : Prop :=
  AL (σ.2.1 15) al ∧ LwB (lwOf σ) ∧ (∀ k, k < 10 → In (σ.2.1 14 k) 20) ∧ σ.1 11 = nI t ∧ t ≤ 16 ∧ σ.1 28 = nI nf ∧ nf ≤ 8 ∧ ∀ f, f < nf → FdOk (σ.2.2 32 f)
theorem MLaw.E {σ σ' : MSt} {al : Nat → Int32} {t nf : Nat} (h : mE [0, 41, 42, 43, 44, 45, 46, 47, 49] [40] [39, 48] σ σ') (hL : MLaw σ al t nf) : MLaw σ' al t nf := by
  obtain ⟨h1, h2, h3, h4, h5, h6, h7, h8⟩ := hL
  refine ⟨?_, ?_, ?_, ?_, h5, ?_, h7, ?_⟩
  · rw [h.2.1 15 (by decide)]; exact h1
  · rw [lwOf_E h]; exact h2
  · rw [h.2.1 14 (by decide)]; exact h3
  · rw [h.1 11 (by decide)]; exact h4
  · rw [h.1 28 (by decide)]; exact h6
  · rw [h.2.2 32 (by decide)]; exact h8
theorem comes_E {σ σ' : MSt} (h : mE [0, 49] [40] [39, 48] σ σ') {a : Int32} {q : Nat} : dX4_comes σ' a q = dX4_comes σ a q := by
  unfold dX4_comes
  rw [h.1 41 (by decide), h.1 45 (by decide), h.1 46 (by decide), h.1 47 (by decide), h.2.2 26 (by decide)]
theorem RunIn.E {σ σ' : MSt} {st m : Nat} {kp : Nat → Bool} {mo : Option (Nat × Nat × Nat)} (h : mE [0, 49] [40] [39, 48] σ σ') (hR : RunIn σ st m kp mo) : RunIn σ' st m kp mo := by
  obtain ⟨h1, h2, h3, h4, h5, h6⟩ := hR
  refine ⟨h1, h2, ?_, ?_, ?_, ?_⟩
  · rw [h.2.1 25 (by decide)]; exact h3
  · rw [h.2.2 26 (by decide)]; exact h4
  · intro k hk
    rw [comes_E h]; exact h5 k hk
  · rw [h.1 42 (by decide), h.1 43 (by decide), h.1 44 (by decide)]; exact h6
theorem RunIn.mo {σ : MSt} {st m : Nat} {kp : Nat → Bool} {mo : Option (Nat × Nat × Nat)} (hR : RunIn σ st m kp mo) : MoOk mo := by
  intro a b t e
  rcases hR.2.2.2.2.2 with ⟨h, -⟩ | ⟨a', b', t', h, ha, hb, -⟩
  · rw [h] at e; cases e
  · rw [h] at e; cases e; exact ⟨ha, hb⟩
/-- the run of a story, as the state has the story -/
def stR (σ : MSt) (st m : Nat) (kp : Nat → Bool) (mo : Option (Nat × Nat × Nat)) : Nat → Sc := nRun (lwOf σ) m (fun k => σ.2.2 26 (20 * st + k)) kp mo
def stPl (σ : MSt) (al : Nat → Int32) (R : Nat → Sc) (f : Nat) : Nat := fPile (σ.2.1 14) al R (σ.2.2 32 f)
def stMn (σ : MSt) (f : Nat) : Nat := (σ.2.2 32 f 3).toNatClampNeg
def selO (only : Int32) (f : Nat) : Bool := decide (only = -1) || decide (nI f = only)
theorem stR_B {σ : MSt} {st m : Nat} {kp : Nat → Bool} {mo : Option (Nat × Nat × Nat)} (hR : RunIn σ st m kp mo) (hw : LwB (lwOf σ)) (h : Nat) : ScB (stR σ st m kp mo h) := sRun_B hR.mo hw hR.2.2.2.1 (h + 1)
theorem mpile {σ : MSt} {al : Nat → Int32} {t nf st m p s h : Nat} {kp : Nat → Bool} {mo : Option (Nat × Nat × Nat)} (hL : MLaw σ al t nf) (hR : RunIn σ st m kp mo) (hp : p < 10) (hs : s < 10) (hh : h < 100) : wp (dX4_runs σ (nI st) (nI h)) (fun σ' => mE [] [40] [39] σ σ' ∧ dX4_pileAt σ' (nI p) (nI s) = some (sPile (σ.2.1 14) (al s) ((stR σ st m kp mo h).1 p)) ∧ (∀ i j, i < 10 → j < 10 → σ'.2.2 39 i j = (stR σ st m kp mo h).1 i j) ∧ ∀ i, i < 10 → σ'.2.1 40 i = (stR σ st m kp mo h).2 i) := by
  refine wp_of (runs_e hR hh) ⟨mput_E, ?_, ?_, ?_⟩
  · have e := (ScE_run (w := lwOf σ) (kp := kp) (mo := mo) (x0 := mget σ) (y0 := sc0) hR.mo hR.2.2.2.1 (h + 1)).2
    rw [pileAt_e (al := al) (by rw [mput_2 (by decide)]; exact hL.1) hp hs, mput_2 (by decide), mput_39]
    exact congrArg some (sPile_cong fun j hj => e.1 p j hp hj)
  · have e := (ScE_run (w := lwOf σ) (kp := kp) (mo := mo) (x0 := mget σ) (y0 := sc0) hR.mo hR.2.2.2.1 (h + 1)).2
    intro i j hi hj
    rw [mput_39]; exact e.1 i j hi hj
  · have e := (ScE_run (w := lwOf σ) (kp := kp) (mo := mo) (x0 := mget σ) (y0 := sc0) hR.mo hR.2.2.2.1 (h + 1)).2
    intro i hi
    rw [mput_40]; exact e.2 i hi
theorem mnum1 {σ : MSt} {b : Nat} (hb : b < 3) : wp (wt_whC (bX4_numbers_1 (nI b)) ((0 : Int32), σ)) (fun σ' => mB b σ σ' ∧ Bg (σ'.2.2 48 b) 1) := by
  refine wp_for 330 0 (fun k v => ∃ s, v = (nI k, s) ∧ mB b σ s ∧ ∀ j, j < k → s.2.2 48 b j = nI (dg 1 j)) (by omega) ⟨σ, rfl, mB.rfl, fun j hj => by omega⟩ ?_ ?_
  · rintro k w hk ⟨s, rfl, hs, h⟩
    unfold bX4_numbers_1
    have hg : ¬ 330 ≤ k := by omega
    simp (disch := omega) only [wp_ite, wp_lt, wp_ck, wp_some, q_330, nI_leI, hg, if_false, vp_nI, hb, hk, true_and, nI_clamp, z_eq, lpo_l, nI_1]
    by_cases c : k = 0
    · rw [if_pos c]
      refine ⟨_, rfl, mB_sG hs, fun j hj => ?_⟩
      have : j = 0 := by omega
      subst c; subst this
      rw [sG_at, if_pos rfl]; rfl
    · rw [if_neg c]
      refine ⟨_, rfl, mB_sG hs, fun j hj => ?_⟩
      rw [sG_at]
      by_cases c2 : j = k
      · rw [if_pos c2, c2, dg_top (n := 1) (by decide) (by omega)]; rfl
      · rw [if_neg c2]; exact h j (by omega)
  · rintro w ⟨s, rfl, hs, h⟩
    unfold bX4_numbers_1
    simp (disch := omega) only [wp_ite, wp_some, q_330, nI_leI, Nat.le_refl, if_true, lpo_r]
    exact ⟨hs, Nat.one_lt_pow (by omega) (by omega), h⟩
theorem mnumbers {σ : MSt} {al : Nat → Int32} {t nf b st m : Nat} {kp : Nat → Bool} {mo : Option (Nat × Nat × Nat)} {only : Int32} (hb : b < 3) (hL : MLaw σ al t nf) (hR : RunIn σ st m kp mo) : wp (dX4_numbers σ (nI b) (nI st) only) (fun σ' => mE [49] [40] [39, 48] σ σ' ∧ σ'.1 49 = nI (nScl (stPl σ al (stR σ st m kp mo)) (selO only) nf) ∧ Bg (σ'.2.2 48 b) (nNum (stPl σ al (stR σ st m kp mo)) (stMn σ) t (selO only) nf) ∧ ∀ i, i ≠ b → σ'.2.2 48 i = σ.2.2 48 i) := by
  unfold dX4_numbers
  rw [wp_lt]
  have hE : mE [49] [40] [39, 48] σ (m_sF σ 49 0) := mE_sF (by simp)
  have h49 : (m_sF σ 49 0).1 49 = 0 := by rw [sF_1, if_pos rfl]
  have hrow : ∀ i, (m_sF σ 49 0).2.2 48 i = σ.2.2 48 i := fun i => rfl
  generalize m_sF σ 49 0 = s1 at hE h49 hrow
  refine wp_ap (mnum1 hb) fun s2 h2 => ?_
  have hpl : ∀ f, f < nf → stPl σ al (stR σ st m kp mo) f ≤ 60 ∧ sPile (σ.2.1 14) (al (σ.2.2 32 f 2).toNatClampNeg) ((stR σ st m kp mo (σ.2.2 32 f 1).toNatClampNeg).1 (σ.2.2 32 f 0).toNatClampNeg) = nI (stPl σ al (stR σ st m kp mo) f) := fun f hf => fPile_le (hL.2.2.2.2.2.2.2 f hf) hL.2.2.1 (stR_B hR hL.2.1)
  have hscl : ∀ n, n ≤ nf → nScl (stPl σ al (stR σ st m kp mo)) (selO only) n ≤ 60 * n := by
    intro n
    induction n with
    | zero => intro _; exact Nat.le_refl _
    | succ n ih =>
      intro hn
      rw [nScl_s]
      have h1 := ih (by omega)
      have h2 := (hpl n (by omega)).1
      split <;> omega
  have key : wp (wt_whC (bX4_numbers_2 (nI b) (nI st) only) ((0 : Int32), s2)) (fun σ' => mE [49] [40] [39, 48] σ σ' ∧ σ'.1 49 = nI (nScl (stPl σ al (stR σ st m kp mo)) (selO only) nf) ∧ Bg (σ'.2.2 48 b) (nNum (stPl σ al (stR σ st m kp mo)) (stMn σ) t (selO only) nf) ∧ ∀ i, i ≠ b → σ'.2.2 48 i = σ.2.2 48 i) := by
    refine wp_for nf 0 (fun f v => ∃ s, v = (nI f, s) ∧ mE [49] [40] [39, 48] σ s ∧ s.1 49 = nI (nScl (stPl σ al (stR σ st m kp mo)) (selO only) f) ∧ Bg (s.2.2 48 b) (nNum (stPl σ al (stR σ st m kp mo)) (stMn σ) t (selO only) f) ∧ ∀ i, i ≠ b → s.2.2 48 i = σ.2.2 48 i) (by omega) ⟨s2, rfl, hE.trans (h2.1.G.wide (by simp) (by simp) (by simp)), by rw [h2.1.1, h49]; rfl, h2.2, fun i hi => by rw [h2.1.row hi]; exact hrow i⟩ ?_ ?_
    · rintro f w hf ⟨s, rfl, hs, hsc, hbs, hro⟩
      unfold bX4_numbers_2
      have hnf8 := hL.2.2.2.2.2.2.1
      have hs0 : mE [0, 49] [40] [39, 48] σ s := hs.wide (by simp) (by simp) (by simp)
      have hsF : mE [0, 41, 42, 43, 44, 45, 46, 47, 49] [40] [39, 48] σ s := hs.wide (by simp) (by simp) (by simp)
      have e28 : s.1 28 = nI nf := (hL.E hsF).2.2.2.2.2.1
      have e32 : s.2.2 32 = σ.2.2 32 := hs.2.2 32 (by decide)
      obtain ⟨⟨p, hp, ep⟩, ⟨hr, hhr, eh⟩, ⟨so, hso, eso⟩, ⟨mny, hmn, emn⟩⟩ := hL.2.2.2.2.2.2.2 f hf
      have hg : ¬ nf ≤ f := by omega
      rw [wp_ite, if_neg (by show ¬ s.1 28 ≤ nI f; rw [e28, nI_leI (by omega) (by omega)]; exact hg)]
      by_cases csel : selO only f = true
      · have hsel : ∀ X : Option (Unit ⊕ (((Int32 × MSt) ⊕ MSt))), (if only = (-1 : Int32) then (some (.inl ())) else (if nI f = only then (some (.inl ())) else X)) = some (.inl ()) := by
          intro X
          by_cases c1 : only = -1
          · rw [if_pos c1]
          · rw [if_neg c1, if_pos]
            unfold selO at csel
            simpa [c1] using csel
        show wp (wt_bd (if only = (-1 : Int32) then (some (Sum.inl ())) else (if nI f = only then (some (Sum.inl ())) else _)) _) _
        rw [hsel, wt_bd_s, rs_l]
        have hR2 := hR.E hs0
        have hL2 := hL.E hsF
        have est : stR s st m kp mo = stR σ st m kp mo := by
          unfold stR
          rw [lwOf_E hsF, hs.2.2 26 (by decide)]
        simp (disch := omega) only [wp_ck, vp_nI, vp_0, vp_1, vp_2, vp_3, nI_clamp, c_0, c_1, c_2, c_3, e32, eh, show f < 8 from by omega, true_and, Nat.reduceLT]
        refine wp_ap (mpile hL2 hR2 hp hso hhr) fun s3 h3 => ?_
        have e32' : s3.2.2 32 = σ.2.2 32 := (h3.1.2.2 32 (by decide)).trans e32
        have epile : dX4_pileAt s3 (nI p) (nI so) = some (nI (stPl σ al (stR σ st m kp mo) f)) := by
          have := (hpl f hf).2
          rw [ep, eh, eso, nI_clamp (by omega), nI_clamp (by omega), nI_clamp (by omega)] at this
          rw [h3.2.1, est, hs.2.1 14 (by decide), this]
        simp (disch := omega) only [wp_ck, vp_nI, vp_0, vp_1, vp_2, vp_3, nI_clamp, c_0, c_1, c_2, c_3, e32', ep, eso, emn, show f < 8 from by omega, true_and, Nat.reduceLT]
        rw [epile, wt_bd_s]
        have hb60 := (hpl f hf).1
        have hE3 : mE [49] [40] [39, 48] σ s3 := hs.trans (h3.1.wide (by simp) (by simp) (by simp))
        have ht3 : s3.1 11 = nI t := by rw [hE3.1 11 (by decide)]; exact hL.2.2.2.1
        have hB3 : Bg (s3.2.2 48 b) (nNum (stPl σ al (stR σ st m kp mo)) (stMn σ) t (selO only) f) := by rw [h3.1.2.2 48 (by decide)]; exact hbs
        have hN3 : nNum (stPl σ al (stR σ st m kp mo)) (stMn σ) t (selO only) f ≤ 16 ^ 420 := Nat.le_trans (nNum_le hL.2.2.2.2.1 f) (p16 (by have := hscl f (by omega); omega))
        refine wp_ap (mcounts (k := mny) hb (by omega) hb60 ht3 hL.2.2.2.2.1 hB3 hN3) fun s4 h4 => ?_
        rw [wp_lt, wp_some, lpo_l, nI_1]
        refine ⟨s4, rfl, hE3.trans (h4.1.wide (by simp) (by simp) (by simp)), ?_, ?_, fun i hi => ?_⟩
        · rw [h4.2.1, h3.1.1 49 (by decide), hsc, nI_add]
          rw [nScl_s, if_pos csel]
        · rw [nNum_s, if_pos csel]
          have : stMn σ f = mny := by unfold stMn; rw [emn]; exact nI_clamp (by omega)
          rw [this]
          exact h4.2.2.1
        · rw [h4.2.2.2 i hi, h3.1.2.2 48 (by decide)]; exact hro i hi
      · have c1 : ¬ only = -1 := fun z => csel (by unfold selO; simp [z])
        have c2 : ¬ nI f = only := fun z => csel (by unfold selO; simp [z])
        show wp (wt_bd (if only = (-1 : Int32) then (some (Sum.inl ())) else (if nI f = only then (some (Sum.inl ())) else _)) _) _
        rw [if_neg c1, if_neg c2]
        show wp (some (Sum.inl (nI f + 1, s))) _
        rw [wp_some, lpo_l, nI_1]
        refine ⟨s, rfl, hs, ?_, ?_, hro⟩
        · rw [hsc]
          rw [nScl_s, if_neg csel]
        · rw [nNum_s, if_neg csel]
          exact hbs
    · rintro w ⟨s, rfl, hs, hsc, hbs, hro⟩
      unfold bX4_numbers_2
      have hnf8 := hL.2.2.2.2.2.2.1
      have hsF : mE [0, 41, 42, 43, 44, 45, 46, 47, 49] [40] [39, 48] σ s := hs.wide (by simp) (by simp) (by simp)
      have e28 : s.1 28 = nI nf := (hL.E hsF).2.2.2.2.2.1
      rw [wp_ite, if_pos (by show s.1 28 ≤ nI nf; rw [e28, nI_leI (by omega) (by omega)]; exact Nat.le_refl _), wp_some, lpo_r]
      exact ⟨hs, hsc, hbs, hro⟩
  refine wp_ap key fun s3 h3 => ?_
  rw [wp_some]
  exact h3
