/-! THE PLAIN LAW, 9: the component's scenes, events and runs -/
set_option maxRecDepth 100000
/-- the law at lw, its cells under B -/
def LwR (τ : HP) (B lw : Nat) (w : LW) (cm al : Nat → Int32) (tk cl : Int32) : Prop :=
  ∃ sh ho co aa fs fh fc fa, (lw < B ∧ sh < B ∧ ho < B ∧ co < B ∧ aa < B) ∧ τ.1 lw = some (.inr (1, [.ref sh, .ref ho, .ref co, .ref aa, .int w.1, .int w.2.1, .int tk, .int cl])) ∧
    τ.1 sh = some (.inl (0, 80, .inl fs)) ∧ τ.1 ho = some (.inl (0, 10, .inl fh)) ∧ τ.1 co = some (.inl (0, 10, .inl fc)) ∧ τ.1 aa = some (.inl (0, 10, .inl fa)) ∧
    (∀ g s, g < 8 → s < 10 → fs (10 * g + s) = w.2.2.1 g s) ∧ (∀ s, s < 10 → fh s = w.2.2.2 s) ∧ (∀ s, s < 10 → fc s = cm s) ∧ (∀ s, s < 10 → fa s = al s)
theorem LwR.keep {τ τ' : HP} {B lw : Nat} {w : LW} {cm al : Nat → Int32} {tk cl : Int32} (h : LwR τ B lw w cm al tk cl) (hq : ∀ q, q < B → τ'.1 q = τ.1 q) : LwR τ' B lw w cm al tk cl := by
  obtain ⟨sh, ho, co, aa, fs, fh, fc, fa, ⟨b1, b2, b3, b4, b5⟩, h1, h2, h3, h4, h5, h6⟩ := h
  exact ⟨sh, ho, co, aa, fs, fh, fc, fa, ⟨b1, b2, b3, b4, b5⟩, (hq _ b1).trans h1, (hq _ b2).trans h2, (hq _ b3).trans h3, (hq _ b4).trans h4, (hq _ b5).trans h5, h6⟩
/-- the scene at s with its arrays la, wa -/
def ScF (τ : HP) (s la wa lw : Nat) (f g : Nat → Int32) (x : Sc) : Prop := τ.1 s = some (.inr (9, [.ref lw, .ref la, .ref wa])) ∧ τ.1 la = some (.inl (0, 100, .inl f)) ∧ τ.1 wa = some (.inl (0, 10, .inl g)) ∧ (∀ i j, i < 10 → j < 10 → f (10 * i + j) = x.1 i j) ∧ ∀ i, i < 10 → g i = x.2 i
def ScR (τ : HP) (s la wa lw : Nat) (x : Sc) : Prop := ∃ f g, ScF τ s la wa lw f g x
theorem ScF.ne {τ : HP} {s la wa lw : Nat} {f g : Nat → Int32} {x : Sc} (h : ScF τ s la wa lw f g x) : s ≠ la ∧ s ≠ wa ∧ la ≠ wa := by
  obtain ⟨h1, h2, h3, -⟩ := h
  refine ⟨fun e => ?_, fun e => ?_, fun e => ?_⟩
  · rw [e, h2] at h1; cases h1
  · rw [e, h3] at h1; cases h1
  · rw [e, h3] at h2
    injection h2 with h2
    injection h2 with h2
    injection h2 with _ h2
    injection h2 with h2
    exact absurd h2 (by decide)
theorem ScF.up {τ : HP} {s la wa lw : Nat} {f g : Nat → Int32} {x : Sc} (h : ScF τ s la wa lw f g x) {i j : Nat} (hi : i < 10) (hj : j < 10) (v : Int32) : ScR (hst τ la (.inl (0, 100, .inl (upd f (10 * i + j) v)))) s la wa lw (sUp x i j v) := by
  obtain ⟨n1, n2, n3⟩ := h.ne
  obtain ⟨h1, h2, h3, h4, h5⟩ := h
  refine ⟨_, g, (hst_ne n1).trans h1, hst_eq, (hst_ne (Ne.symm n3)).trans h3, fun a b ha hb => ?_, h5⟩
  show (if 10 * a + b = 10 * i + j then v else f (10 * a + b)) = (if a = i ∧ b = j then v else x.1 a b)
  by_cases c : a = i ∧ b = j
  · rw [if_pos (by omega), if_pos c]
  · rw [if_neg (by omega), if_neg c]; exact h4 a b ha hb
theorem ScF.wr {τ : HP} {s la wa lw : Nat} {f g : Nat → Int32} {x : Sc} (h : ScF τ s la wa lw f g x) {i : Nat} (v : Int32) : ScR (hst τ wa (.inl (0, 10, .inl (upd g i v)))) s la wa lw (sWr x i v) := by
  obtain ⟨n1, n2, n3⟩ := h.ne
  obtain ⟨h1, h2, h3, h4, h5⟩ := h
  refine ⟨f, _, (hst_ne n2).trans h1, (hst_ne n3).trans h2, hst_eq, h4, fun a ha => ?_⟩
  show (if a = i then v else g a) = (if a = i then v else x.2 a)
  rw [h5 a ha]
theorem ScR.cong {τ : HP} {s la wa lw : Nat} {x y : Sc} (h : ScR τ s la wa lw x) (e : ScE x y) : ScR τ s la wa lw y := by
  obtain ⟨f, g, h1, h2, h3, h4, h5⟩ := h
  exact ⟨f, g, h1, h2, h3, fun i j hi hj => (h4 i j hi hj).trans (e.1 i j hi hj), fun i hi => (h5 i hi).trans (e.2 i hi)⟩
theorem ScR.eq {τ : HP} {s la wa lw : Nat} {x y : Sc} (h : ScR τ s la wa lw x) (e : x = y) : ScR τ s la wa lw y := e ▸ h
theorem ScF.frL {W : List Nat} {τ : HP} {s la wa lw : Nat} {f g : Nat → Int32} {x : Sc} {c : HC} (h : ScF τ s la wa lw f g x) (hW : la ∈ W) : Fr W τ (hst τ la c) := Fr.st h.2.1 hW
theorem ScF.frW {W : List Nat} {τ : HP} {s la wa lw : Nat} {f g : Nat → Int32} {x : Sc} {c : HC} (h : ScF τ s la wa lw f g x) (hW : wa ∈ W) : Fr W τ (hst τ wa c) := Fr.st h.2.2.1 hW
theorem cshed {τ : HP} {B s la wa lw a k : Nat} {x : Sc} {w : LW} {cm al : Nat → Int32} {tk cl : Int32} (hL : LwR τ B lw w cm al tk cl) (h : ScR τ s la wa lw x) (hW : ScW x) (ha : a < 10) (hk : k < 10) : eX12_shedBy τ s (nI a) (nI k) = some (sFrom w.2.2.1 (x.2 a) k) := by
  obtain ⟨sh, ho, co, aa, fs, fh, fc, fa, -, l1, l2, -, -, -, l6, -⟩ := hL
  obtain ⟨f, g, h1, h2, h3, h4, h5⟩ := h
  unfold eX12_shedBy
  rw [hgA_of (cs := [9]) (k := 2) h1 rfl rfl, wt_bd_s, haI_of h3, wt_bd_s, wt_ck_t (by rw [vp_nI (by omega)]; exact ha)]
  show (if g (nI a).toNatClampNeg = (-1 : Int32) then _ else _) = _
  rw [nI_clamp (by omega), h5 a ha]
  unfold sFrom
  by_cases c : x.2 a = -1
  · rw [if_pos c, if_pos c]
  · rw [if_neg c, if_neg c, hgA_of (cs := [9]) (k := 0) h1 rfl rfl, wt_bd_s, hgA_of (cs := [1]) (k := 0) l1 rfl rfl, wt_bd_s, wt_bd_s, haI_of h3, wt_bd_s, wt_ck_t (by rw [vp_nI (by omega)]; exact ha), haI_of l2, wt_bd_s]
    show wt_ck (vp_in ((10 : Int32) * g a + nI k) 80) (some (fs ((10 : Int32) * g a + nI k).toNatClampNeg)) = _
    rcases hW a ha with e | ⟨q, hq, e⟩
    · exact absurd e c
    · rw [h5 a ha, e, i10, wt_ck_t (by rw [vp_nI (by omega)]; omega), nI_clamp (by omega), nI_clamp (by omega), l6 q k hq hk]
theorem cstay {τ : HP} {s la wa lw p : Nat} {n : Int32} {x : Sc} (h : ScR τ s la wa lw x) (hp : p < 10) : wp (eX12_stay τ s (nI p) n) (fun t => ScR t s la wa lw (sStayK x p n 10) ∧ Fr [la, wa] τ t ∧ t.2 = τ.2) := by
  unfold eX12_stay
  rw [wp_bd]
  simp only [wp_some]
  refine wp_for 10 0 (fun k v => ∃ t, v = (nI k, t) ∧ ScR t s la wa lw (sStayK x p n k) ∧ Fr [la, wa] τ t ∧ t.2 = τ.2) (by omega) ⟨τ, rfl, h.eq (Sc_ext (fun i j => (if_neg (by omega)).symm) (fun _ => rfl)), Fr.rfl, rfl⟩ ?_ ?_
  · rintro k v hk ⟨t, rfl, ⟨f, g, hF⟩, hfr, ht⟩
    have hF0 := hF
    obtain ⟨h1, h2, h3, h4, h5⟩ := hF
    unfold bX12_stay_1
    dsimp only
    have hg : ¬ 10 ≤ k := by omega
    have e : f (10 * p + k) = x.1 p k := (h4 p k hp hk).trans (if_neg (by omega))
    rw [wp_ite, if_neg (by show ¬ (10 : Int32) ≤ nI k; rw [il_le (by omega) (by omega)]; exact hg)]
    show wp (wt_bd (hgA t s [9] 1) _) _
    rw [hgA_of (cs := [9]) (k := 1) h1 rfl rfl, wt_bd_s, wt_bd_s, haI_of h2, wt_bd_s]
    show wp (wt_ck (vp_in ((10 : Int32) * nI p + nI k) 100) _) _
    rw [i10, nI_clamp (by omega), wt_ck_t (by rw [vp_nI (by omega)]; omega), wt_bd_s, wt_ck_t (by rw [vp_nI (by omega)]; show _ < 100; omega), wp_lt, wp_lt, wp_some, lpo_l]
    show ∃ t', (nI k + 1, _) = (nI (k + 1), t') ∧ _
    rw [nI_1]
    refine ⟨_, rfl, (hF0.up hp hk _).eq (Sc_ext (fun i j => ?_) (fun _ => rfl)), hfr.trans (hF0.frL (by simp)), ht⟩
    show (if i = p ∧ j = k then f (10 * p + k) * n / 16 else (if i = p ∧ j < k then x.1 p j * n / 16 else x.1 i j)) = (if i = p ∧ j < k + 1 then x.1 p j * n / 16 else x.1 i j)
    rw [e]
    by_cases c : i = p ∧ j = k
    · rw [if_pos c, if_pos (by omega), c.2]
    · rw [if_neg c]
      by_cases c2 : i = p ∧ j < k
      · rw [if_pos c2, if_pos (by omega)]
      · rw [if_neg c2, if_neg (by omega)]
  · rintro v ⟨t, rfl, h1, h2⟩
    unfold bX12_stay_1
    dsimp only
    rw [wp_ite, if_pos (by show (10 : Int32) ≤ nI 10; decide), wp_some, lpo_r]
    exact ⟨h1, h2⟩
theorem ctouch {τ : HP} {B s la wa lw a b : Nat} {x : Sc} {w : LW} {cm al : Nat → Int32} {tk cl : Int32} (hL : LwR τ B lw w cm al tk cl) (hB : B ≤ la) (h : ScR τ s la wa lw x) (hW : ScW x) (ha : a < 10) (hb : b < 10) : wp (eX12_touch τ s (nI a) (nI b)) (fun t => ScR t s la wa lw (sTouchK w.2.1 w.2.2.1 x a b 10) ∧ Fr [la, wa] τ t ∧ t.2 = τ.2) := by
  unfold eX12_touch
  rw [wp_bd]
  simp only [wp_some]
  refine wp_for 10 0 (fun k v => ∃ t, v = (nI k, t) ∧ ScR t s la wa lw (sTouchK w.2.1 w.2.2.1 x a b k) ∧ Fr [la, wa] τ t ∧ t.2 = τ.2 ∧ LwR t B lw w cm al tk cl) (by omega) ⟨τ, rfl, h.eq (Sc_ext (fun i j => by
    show _ = (if _ then _ else (if _ then _ else _))
    rw [if_neg (by omega), if_neg (by omega)]) (fun _ => rfl)), Fr.rfl, rfl, hL⟩ ?_ ?_
  · rintro k v hk ⟨t, rfl, ⟨f, g, hF⟩, hfr, ht, hLt⟩
    have hF0 := hF
    have hLt0 := hLt
    obtain ⟨sh, ho, co, aa, fs, fh, fc, fa, -, l1, -⟩ := hLt
    obtain ⟨n1, n2, n3⟩ := hF.ne
    obtain ⟨h1, h2, h3, h4, h5⟩ := hF
    have ea : f (10 * a + k) = x.1 a k := (h4 a k ha hk).trans (by
      show (if _ then _ else (if _ then _ else _)) = _
      rw [if_neg (by omega), if_neg (by omega)])
    have eb : f (10 * b + k) = x.1 b k := (h4 b k hb hk).trans (by
      show (if _ then _ else (if _ then _ else _)) = _
      rw [if_neg (by omega), if_neg (by omega)])
    unfold bX12_touch_1
    dsimp only
    rw [wp_ite, if_neg (by show ¬ (10 : Int32) ≤ nI k; rw [il_le (by omega) (by omega)]; omega)]
    show wp (wt_bd (hgA t s [9] 1) _) _
    rw [hgA_of (cs := [9]) (k := 1) h1 rfl rfl, wt_bd_s, haI_of h2, wt_bd_s]
    show wp (wt_ck (vp_in ((10 : Int32) * nI a + nI k) 100) _) _
    rw [i10, i10, nI_clamp (by omega), nI_clamp (by omega), wt_ck_t (by rw [vp_nI (by omega)]; omega), wp_lt, wt_bd_s, haI_of h2, wt_bd_s, wt_ck_t (by rw [vp_nI (by omega)]; show _ < 100; omega), wp_lt, hgA_of (cs := [9]) (k := 0) h1 rfl rfl, wt_bd_s, hgI_of (cs := [1]) (k := 5) l1 rfl rfl, wt_bd_s, wp_lt, wt_bd_s, hgI_of (cs := [1]) (k := 5) l1 rfl rfl, wt_bd_s, wp_lt, wt_bd_s, wt_ck_t (hcl_of h1)]
    show wp (wt_bd (eX12_shedBy t s (nI b) (nI k)) _) _
    have hs1 : eX12_shedBy t s (nI b) (nI k) = some (sFrom w.2.2.1 (x.2 b) k) := by
      have z := cshed hLt0 ⟨f, g, hF0⟩ hW hb hk
      exact z
    rw [hs1, wt_bd_s, haI_of h2, wt_bd_s, wt_ck_t (by rw [vp_nI (by omega)]; show _ < 100; omega), wp_lt]
    dsimp only
    have hup := hF0.up (i := a) (j := k) ha hk (wt_min (9999 : Int32) (f (10 * a + k) - f (10 * a + k) * w.2.1 / 16 + f (10 * b + k) * w.2.1 / 16 + sFrom w.2.2.1 (x.2 b) k))
    have hLu : LwR (hst t la (.inl (0, 100, .inl (upd f (10 * a + k) (wt_min (9999 : Int32) (f (10 * a + k) - f (10 * a + k) * w.2.1 / 16 + f (10 * b + k) * w.2.1 / 16 + sFrom w.2.2.1 (x.2 b) k)))))) B lw w cm al tk cl := hLt0.keep fun q hq => hst_ne (by omega)
    have hfu : Fr [la, wa] t (hst t la (.inl (0, 100, .inl (upd f (10 * a + k) (wt_min (9999 : Int32) (f (10 * a + k) - f (10 * a + k) * w.2.1 / 16 + f (10 * b + k) * w.2.1 / 16 + sFrom w.2.2.1 (x.2 b) k)))))) := hF0.frL (by simp)
    have h2u : (hst t la (.inl (0, 100, .inl (upd f (10 * a + k) (wt_min (9999 : Int32) (f (10 * a + k) - f (10 * a + k) * w.2.1 / 16 + f (10 * b + k) * w.2.1 / 16 + sFrom w.2.2.1 (x.2 b) k)))))).2 = t.2 := rfl
    generalize hst t la (.inl (0, 100, .inl (upd f (10 * a + k) (wt_min (9999 : Int32) (f (10 * a + k) - f (10 * a + k) * w.2.1 / 16 + f (10 * b + k) * w.2.1 / 16 + sFrom w.2.2.1 (x.2 b) k))))) = t2 at hup hLu hfu h2u
    have hsh : eX12_shedBy t2 s (nI a) (nI k) = some (sFrom w.2.2.1 (x.2 a) k) := by
      have z := cshed (a := a) hLu hup hW ha hk
      exact z
    obtain ⟨f2, g2, hF2⟩ := hup
    have hF20 := hF2
    obtain ⟨j1, j2, j3, j4, j5⟩ := hF2
    rw [hgA_of (cs := [9]) (k := 1) j1 rfl rfl, wt_bd_s, wt_ck_t (hcl_of j1)]
    show wp (wt_bd (eX12_shedBy t2 s (nI a) (nI k)) _) _
    rw [hsh, wt_bd_s, haI_of j2, wt_bd_s, wt_ck_t (by rw [vp_nI (by omega)]; show _ < 100; omega), wp_lt, wp_lt, wp_some, lpo_l]
    show ∃ t', (nI k + 1, _) = (nI (k + 1), t') ∧ _
    rw [nI_1]
    refine ⟨_, rfl, (hF20.up hb hk _).eq (Sc_ext (fun i j => ?_) (fun _ => rfl)), (hfr.trans hfu).trans (hF20.frL (by simp)), h2u.trans ht, hLu.keep fun q hq => hst_ne (by omega)⟩
    show (if i = b ∧ j = k then wt_min 9999 (f (10 * b + k) - f (10 * b + k) * w.2.1 / 16 + f (10 * a + k) * w.2.1 / 16 + sFrom w.2.2.1 (x.2 a) k) else (if i = a ∧ j = k then wt_min 9999 (f (10 * a + k) - f (10 * a + k) * w.2.1 / 16 + f (10 * b + k) * w.2.1 / 16 + sFrom w.2.2.1 (x.2 b) k) else (if i = b ∧ j < k then sA w.2.1 (x.1 b j) (x.1 a j) (sFrom w.2.2.1 (x.2 a) j) else (if i = a ∧ j < k then sA w.2.1 (x.1 a j) (x.1 b j) (sFrom w.2.2.1 (x.2 b) j) else x.1 i j)))) = (if i = b ∧ j < k + 1 then sA w.2.1 (x.1 b j) (x.1 a j) (sFrom w.2.2.1 (x.2 a) j) else (if i = a ∧ j < k + 1 then sA w.2.1 (x.1 a j) (x.1 b j) (sFrom w.2.2.1 (x.2 b) j) else x.1 i j))
    rw [ea, eb, min_less, min_less]
    by_cases c : j = k
    · subst c
      by_cases c1 : i = b
      · rw [if_pos ⟨c1, rfl⟩, if_pos ⟨c1, by omega⟩]; rfl
      · rw [if_neg (fun z => c1 z.1), if_neg (show ¬ (i = b ∧ j < j + 1) from fun z => c1 z.1)]
        by_cases c2 : i = a
        · rw [if_pos ⟨c2, rfl⟩, if_pos ⟨c2, by omega⟩]; rfl
        · rw [if_neg (fun z => c2 z.1), if_neg (fun z => c1 z.1), if_neg (fun z => c2 z.1), if_neg (fun z => c2 z.1)]
    · have e : (j < k + 1) = (j < k) := propext ⟨fun z => by omega, fun z => by omega⟩
      rw [if_neg (fun z => c z.2), if_neg (fun z => c z.2)]
      simp only [e]
  · rintro v ⟨t, rfl, h1, h2, h3, -⟩
    unfold bX12_touch_1
    dsimp only
    rw [wp_ite, if_pos (by show (10 : Int32) ≤ nI 10; decide), wp_some, lpo_r]
    exact ⟨h1, h2, h3⟩
theorem chour {τ : HP} {B s la wa lw : Nat} {x : Sc} {w : LW} {cm al : Nat → Int32} {tk cl : Int32} (hL : LwR τ B lw w cm al tk cl) (hB : B ≤ la) (h : ScR τ s la wa lw x) : wp (eX12_hour τ s) (fun t => ScR t s la wa lw (sHourK w.2.2.2 x 10 0) ∧ Fr [la, wa] τ t ∧ t.2 = τ.2) := by
  unfold eX12_hour
  rw [wp_bd]
  simp only [wp_some]
  refine wp_for 100 0 (fun q v => ∃ t, v = (nI q, t) ∧ ScR t s la wa lw (sHourK w.2.2.2 x (q / 10) (q % 10)) ∧ Fr [la, wa] τ t ∧ t.2 = τ.2 ∧ LwR t B lw w cm al tk cl) (by omega) ⟨τ, rfl, h.eq (Sc_ext (fun i j => (if_neg (by omega)).symm) (fun _ => rfl)), Fr.rfl, rfl, hL⟩ ?_ ?_
  · rintro q v hq ⟨t, rfl, ⟨f, g, hF⟩, hfr, ht, hLt⟩
    have hF0 := hF
    have hLt0 := hLt
    obtain ⟨sh, ho, co, aa, fs, fh, fc, fa, -, l1, -, l3, -, -, -, l7, -⟩ := hLt
    obtain ⟨h1, h2, h3, h4, h5⟩ := hF
    have e : f q = x.1 (q / 10) (q % 10) := by
      have := h4 (q / 10) (q % 10) (by omega) (by omega)
      rw [show 10 * (q / 10) + q % 10 = q from by omega] at this
      exact this.trans (if_neg (by omega))
    have er : nI q - nI q / (10 : Int32) * (10 : Int32) = nI (q % 10) := pk_rem (d := 10) (by omega) (by omega) (by omega)
    unfold bX12_hour_1
    dsimp only
    rw [wp_ite, if_neg (by show ¬ (100 : Int32) ≤ nI q; rw [il_le (by omega) (by omega)]; omega)]
    show wp (wt_bd (hgA t s [9] 1) _) _
    rw [hgA_of (cs := [9]) (k := 1) h1 rfl rfl, wt_bd_s, wt_bd_s, haI_of h2, wt_bd_s, er, nI_clamp (by omega), nI_clamp (by omega), wt_ck_t (by rw [vp_nI (by omega)]; show _ < 100; omega), hgA_of (cs := [9]) (k := 0) h1 rfl rfl, wt_bd_s, hgA_of (cs := [1]) (k := 1) l1 rfl rfl, wt_bd_s, haI_of l3, wt_bd_s, wt_ck_t (by rw [vp_nI (by omega)]; show _ < 10; omega), wt_bd_s, wt_ck_t (by rw [vp_nI (by omega)]; show _ < 100; omega), wp_lt, wp_lt, wp_some, lpo_l]
    show ∃ t', (nI q + 1, hst t la (.inl (0, 100, .inl (upd f q (f q * fh (q % 10) / 16))))) = (nI (q + 1), t') ∧ _
    rw [nI_1]
    have hup := hF0.up (i := q / 10) (j := q % 10) (by omega) (by omega) (f q * fh (q % 10) / 16)
    rw [show 10 * (q / 10) + q % 10 = q from by omega] at hup
    refine ⟨_, rfl, hup.eq (Sc_ext (fun i j => ?_) (fun _ => rfl)), hfr.trans (hF0.frL (by simp)), ht, hLt0.keep fun z hz => hst_ne (by omega)⟩
    show (if i = q / 10 ∧ j = q % 10 then f q * fh (q % 10) / 16 else (if (i < q / 10 ∨ i = q / 10 ∧ j < q % 10) ∧ j < 10 then x.1 i j * w.2.2.2 j / 16 else x.1 i j)) = (if (i < (q + 1) / 10 ∨ i = (q + 1) / 10 ∧ j < (q + 1) % 10) ∧ j < 10 then x.1 i j * w.2.2.2 j / 16 else x.1 i j)
    rw [e, l7 (q % 10) (by omega)]
    by_cases c : i = q / 10 ∧ j = q % 10
    · rw [if_pos c, if_pos (by omega), c.1, c.2]
    · rw [if_neg c]
      by_cases c2 : (i < q / 10 ∨ i = q / 10 ∧ j < q % 10) ∧ j < 10
      · rw [if_pos c2, if_pos (by omega)]
      · rw [if_neg c2, if_neg (by omega)]
  · rintro v ⟨t, rfl, h1, h2, h3, -⟩
    unfold bX12_hour_1
    dsimp only
    rw [wp_ite, if_pos (by show (100 : Int32) ≤ nI 100; decide), wp_some, lpo_r]
    exact ⟨h1, h2, h3⟩
theorem cinit {τ : HP} {s lw : Nat} {x0 : Sc} (hf : Wf τ) (h : τ.1 s = some (.inr (9, [.null, .null, .null]))) : wp (eX12_init τ s lw) (fun t => ∃ la wa, τ.2 ≤ la ∧ τ.2 ≤ wa ∧ ScR t s la wa lw (sInitK x0 10 0 10) ∧ Fr [s] τ t ∧ t.2 = τ.2 + 2) := by
  have hs := hf s _ h
  unfold eX12_init
  rw [wp_lt]
  have a1 : (hnew τ (.inl (0, 100, .inl (fun _ => 0)))).1 s = some (.inr (9, [.null, .null, .null])) := (hnew_ne (by omega)).trans h
  have a2 : (hnew τ (.inl (0, 100, .inl (fun _ => 0)))).1 τ.2 = some (.inl (0, 100, .inl (fun _ => 0))) := hnew_eq
  have aF : Fr [s] τ (hnew τ (.inl (0, 100, .inl (fun _ => 0)))) := Fr.new
  have a3 : (hnew τ (.inl (0, 100, .inl (fun _ => 0)))).2 = τ.2 + 1 := rfl
  generalize hnew τ (.inl (0, 100, .inl (fun _ => 0))) = t1 at a1 a2 aF a3
  rw [hp_of (cs := [9]) (k := 1) a1 rfl (by omega) (by simp), wt_bd_s, wp_lt]
  show wp (wt_bd (hp (hnew (hst t1 s (.inr (9, [.null, .ref τ.2, .null]))) (.inl (0, 10, .inl (fun _ => 0)))) s [9] 2 (.ref t1.2)) _) _
  have b1 : (hnew (hst t1 s (.inr (9, [.null, .ref τ.2, .null]))) (.inl (0, 10, .inl (fun _ => 0)))).1 s = some (.inr (9, [.null, .ref τ.2, .null])) := (hnew_ne (by show s ≠ t1.2; omega)).trans hst_eq
  have b2 : (hnew (hst t1 s (.inr (9, [.null, .ref τ.2, .null]))) (.inl (0, 10, .inl (fun _ => 0)))).1 τ.2 = some (.inl (0, 100, .inl (fun _ => 0))) := (hnew_ne (by show τ.2 ≠ t1.2; omega)).trans ((hst_ne (by omega)).trans a2)
  have b3 : (hnew (hst t1 s (.inr (9, [.null, .ref τ.2, .null]))) (.inl (0, 10, .inl (fun _ => 0)))).1 t1.2 = some (.inl (0, 10, .inl (fun _ => 0))) := if_pos rfl
  have bF : Fr [s] τ (hnew (hst t1 s (.inr (9, [.null, .ref τ.2, .null]))) (.inl (0, 10, .inl (fun _ => 0)))) := (aF.trans (Fr.st a1 (by simp))).trans Fr.new
  have b4 : (hnew (hst t1 s (.inr (9, [.null, .ref τ.2, .null]))) (.inl (0, 10, .inl (fun _ => 0)))).2 = τ.2 + 2 := by show t1.2 + 1 = _; omega
  generalize hnew (hst t1 s (.inr (9, [.null, .ref τ.2, .null]))) (.inl (0, 10, .inl (fun _ => 0))) = t2 at b1 b2 b3 bF b4
  rw [hp_of (cs := [9]) (k := 2) b1 rfl (by omega) (by simp), wt_bd_s]
  show wp (wt_bd (hp (hst t2 s (.inr (9, [.null, .ref τ.2, .ref t1.2]))) s [9] 0 (.ref lw)) _) _
  rw [hp_of (cs := [9]) (k := 0) hst_eq rfl (by omega) (by simp), wt_bd_s, hst_hst]
  show wp (wt_bd (wt_whC (bX12_init_1 s) ((0 : Int32), hst t2 s (.inr (9, [.ref lw, .ref τ.2, .ref t1.2])))) _) _
  have c1 : (hst t2 s (.inr (9, [.ref lw, .ref τ.2, .ref t1.2]))).1 s = some (.inr (9, [.ref lw, .ref τ.2, .ref t1.2])) := hst_eq
  have c2 : (hst t2 s (.inr (9, [.ref lw, .ref τ.2, .ref t1.2]))).1 τ.2 = some (.inl (0, 100, .inl (fun _ => 0))) := (hst_ne (by omega)).trans b2
  have c3 : (hst t2 s (.inr (9, [.ref lw, .ref τ.2, .ref t1.2]))).1 t1.2 = some (.inl (0, 10, .inl (fun _ => 0))) := (hst_ne (by omega)).trans b3
  have cF : Fr [s] τ (hst t2 s (.inr (9, [.ref lw, .ref τ.2, .ref t1.2]))) := bF.trans (Fr.st b1 (by simp))
  have c4 : (hst t2 s (.inr (9, [.ref lw, .ref τ.2, .ref t1.2]))).2 = τ.2 + 2 := b4
  generalize hst t2 s (.inr (9, [.ref lw, .ref τ.2, .ref t1.2])) = t3 at c1 c2 c3 cF c4
  rw [wp_bd]
  simp only [wp_some]
  refine wp_for 10 0 (fun k v => ∃ t, v = (nI k, t) ∧ ScR t s τ.2 t1.2 lw (fun _ _ => 0, fun i => if i < k then -1 else 0) ∧ Fr [s] τ t ∧ t.2 = τ.2 + 2) (by omega) ⟨t3, rfl, ⟨_, _, c1, c2, c3, fun _ _ _ _ => rfl, fun i _ => by show (0 : Int32) = (if i < 0 then -1 else 0); rw [if_neg (by omega)]⟩, cF, c4⟩ ?_ ?_
  · rintro k v hk ⟨t, rfl, ⟨f, g, hF⟩, hfr, ht⟩
    have hF0 := hF
    obtain ⟨h1, h2, h3, h4, h5⟩ := hF
    unfold bX12_init_1
    dsimp only
    rw [wp_ite, if_neg (by show ¬ (10 : Int32) ≤ nI k; rw [il_le (by omega) (by omega)]; omega)]
    show wp (wt_bd (hgA t s [9] 2) _) _
    rw [hgA_of (cs := [9]) (k := 2) h1 rfl rfl, wt_bd_s, haI_of h3, wt_bd_s, wt_ck_t (by show vp_in (nI k) 10; rw [vp_nI (by omega)]; exact hk), wp_lt, wp_lt, wp_some, lpo_l]
    show ∃ t', (nI k + 1, hst t t1.2 (.inl (0, 10, .inl (upd g (nI k).toNatClampNeg (-1))))) = (nI (k + 1), t') ∧ _
    rw [nI_1, nI_clamp (by omega)]
    refine ⟨_, rfl, (hF0.wr (i := k) (-1)).eq (Sc_ext (fun _ _ => rfl) (fun i => ?_)), hfr.then (V := [t1.2]) (hF0.frW (by simp)) fun q hq => Or.inr (by
      have : q = t1.2 := by simpa using hq
      omega), ht⟩
    show (if i = k then -1 else (if i < k then -1 else (0 : Int32))) = (if i < k + 1 then -1 else 0)
    by_cases c : i = k
    · rw [if_pos c, if_pos (by omega)]
    · rw [if_neg c]
      by_cases c2 : i < k
      · rw [if_pos c2, if_pos (by omega)]
      · rw [if_neg c2, if_neg (by omega)]
  · rintro v ⟨t, rfl, h1, h2, h3⟩
    unfold bX12_init_1
    dsimp only
    rw [wp_ite, if_pos (by show (10 : Int32) ≤ nI 10; decide), wp_some, lpo_r]
    refine ⟨τ.2, t1.2, Nat.le_refl _, by omega, h1.cong ⟨fun i j hi hj => ?_, fun i hi => ?_⟩, h2, h3⟩
    · show (0 : Int32) = (if _ then _ else _)
      rw [if_pos ⟨Or.inl hi, hj⟩]
    · show (if _ then _ else _) = (if _ then _ else _)
      rw [if_pos hi, if_pos hi]
theorem cpile {τ : HP} {B s la wa lw p so : Nat} {x : Sc} {w : LW} {cm al : Nat → Int32} {tk cl : Int32} (hL : LwR τ B lw w cm al tk cl) (h : ScR τ s la wa lw x) (hp : p < 10) (hs : so < 10) : eX12_pile τ s (nI p) (nI so) = some (sPile cm (al so) (x.1 p)) := by
  obtain ⟨sh, ho, co, aa, fs, fh, fc, fa, -, l1, -, -, l4, l5, -, -, l8, l9⟩ := hL
  obtain ⟨f, g, h1, h2, h3, h4, h5⟩ := h
  apply wp_eq
  unfold eX12_pile
  rw [wp_bd]
  refine wp_for 10 0 (fun k v => v = (sSum (bt (al so)) (fun k => x.1 p k + cm k) k, nI k)) (by omega) rfl ?_ ?_
  · rintro k v hk rfl
    unfold bX12_pile_1
    dsimp only
    rw [wp_ite, if_neg (by show ¬ (10 : Int32) ≤ nI k; rw [il_le (by omega) (by omega)]; omega), hgA_of (cs := [9]) (k := 0) h1 rfl rfl, wt_bd_s, hgA_of (cs := [1]) (k := 3) l1 rfl rfl, wt_bd_s, haI_of l5, wt_bd_s, wt_ck_t (by show vp_in (nI so) 10; rw [vp_nI (by omega)]; exact hs), wp_ite]
    show if ((fa (nI so).toNatClampNeg >>> (nI k &&& 31)) &&& (1 : Int32)) = (1 : Int32) then _ else _
    rw [nI_clamp (by omega), l9 so hs]
    have hb : ((((al so) >>> (nI k &&& 31)) &&& (1 : Int32)) = 1) = (bt (al so) k = true) := b_test (by omega)
    by_cases c : bt (al so) k = true
    · rw [if_pos (by rw [hb]; exact c), hgA_of (cs := [9]) (k := 1) h1 rfl rfl, wt_bd_s, haI_of h2, wt_bd_s]
      show wp (wt_ck (vp_in ((10 : Int32) * nI p + nI k) 100) _) _
      rw [i10, nI_clamp (by omega), wt_ck_t (by rw [vp_nI (by omega)]; omega), wt_bd_s, hgA_of (cs := [1]) (k := 2) l1 rfl rfl, wt_bd_s, haI_of l4, wt_bd_s, wt_ck_t (by show vp_in (nI k) 10; rw [vp_nI (by omega)]; exact hk), wp_lt, wp_lt, wp_some, lpo_l]
      show (sSum (bt (al so)) (fun k => x.1 p k + cm k) k + (f (10 * p + k) + fc (nI k).toNatClampNeg), nI k + 1) = (sSum (bt (al so)) (fun k => x.1 p k + cm k) (k + 1), nI (k + 1))
      rw [sSum_s, if_pos c, nI_1, nI_clamp (by omega), h4 p k hp hk, l8 k hk]
    · rw [if_neg (by rw [hb]; exact c), wp_lt, wp_some, lpo_l]
      show (sSum (bt (al so)) (fun k => x.1 p k + cm k) k, nI k + 1) = (sSum (bt (al so)) (fun k => x.1 p k + cm k) (k + 1), nI (k + 1))
      rw [sSum_s, if_neg c, nI_1]
  · rintro v rfl
    unfold bX12_pile_1
    dsimp only
    rw [wp_ite, if_pos (by show (10 : Int32) ≤ nI 10; decide), wp_some, lpo_r, wp_some, min_less, less_min]
    rfl
/-! events -/
/-- the event at a is the row e (kind, place, other, hour) -/
def EvR (τ : HP) (a : Nat) (e : Nat → Int32) : Prop := ∃ c y, τ.1 a = some (.inr (c, [.int (e 1), .int (e 3), .int y])) ∧
  (e 0 = 0 ∧ c = 5 ∧ y = e 2 ∨ e 0 = 1 ∧ c = 5 ∧ y = -1 ∨ e 0 = 2 ∧ c = 6 ∧ y = e 2 ∨ e 0 = 3 ∧ c = 7 ∧ y = -1 ∨ e 0 = 4 ∧ c = 7 ∧ y = e 2)
theorem EvR.cl {τ : HP} {a : Nat} {e : Nat → Int32} (h : EvR τ a e) : ∃ c, hcl τ a = some c ∧ hev c = true ∧ hob c = true ∧ (c = 6 ↔ e 0 = 2) := by
  obtain ⟨c, y, h1, h2⟩ := h
  refine ⟨c, hcl_of h1, ?_⟩
  rcases h2 with ⟨k, e1, -⟩ | ⟨k, e1, -⟩ | ⟨k, e1, -⟩ | ⟨k, e1, -⟩ | ⟨k, e1, -⟩ <;> subst e1 <;> rw [k] <;> exact ⟨rfl, rfl, by decide⟩
theorem EvR.hour {τ : HP} {a : Nat} {e : Nat → Int32} (h : EvR τ a e) : hgI τ a [5, 6, 7] 1 = some (e 3) := by
  obtain ⟨c, y, h1, h2⟩ := h
  refine hgI_of (cs := [5, 6, 7]) (k := 1) h1 ?_ rfl
  rcases h2 with ⟨k, e1, -⟩ | ⟨k, e1, -⟩ | ⟨k, e1, -⟩ | ⟨k, e1, -⟩ | ⟨k, e1, -⟩ <;> subst e1 <;> rfl
theorem EvR.keep {τ τ' : HP} {a : Nat} {e : Nat → Int32} (h : EvR τ a e) (hq : τ'.1 a = τ.1 a) : EvR τ' a e := by
  obtain ⟨c, y, h1, h2⟩ := h
  exact ⟨c, y, hq.trans h1, h2⟩
theorem EvR.cong {τ : HP} {a : Nat} {e e' : Nat → Int32} (h : EvR τ a e) (hq : ∀ j, j < 4 → e' j = e j) : EvR τ a e' := by
  obtain ⟨c, y, h1, h2⟩ := h
  refine ⟨c, y, ?_, ?_⟩
  · rw [hq 1 (by omega), hq 3 (by omega)]; exact h1
  · rw [hq 0 (by omega), hq 2 (by omega)]; exact h2
theorem cdoes {τ : HP} {B s la wa lw a : Nat} {e : Nat → Int32} {x : Sc} {w : LW} {cm al : Nat → Int32} {tk cl : Int32} (hL : LwR τ B lw w cm al tk cl) (hB : B ≤ la) (h : ScR τ s la wa lw x) (hW : ScW x) (he : EvR τ a e) (ho : EvOk e) : wp (eEv_does τ a s) (fun t => ScR t s la wa lw (sDo w e x) ∧ Fr [la, wa] τ t ∧ t.2 = τ.2) := by
  obtain ⟨c, y, h1, h2⟩ := he
  have ho0 := ho
  obtain ⟨⟨p, hp, ep⟩, hk, -⟩ := ho
  have hpc : (e 1).toNatClampNeg = p := by rw [ep]; exact nI_clamp (by omega)
  have h0 := h
  obtain ⟨f, g, hF⟩ := h
  have hF0 := hF
  obtain ⟨s1, s2, s3, -, -⟩ := hF
  have hL0 := hL
  obtain ⟨sh, hol, co, aa, fs, fh, fc, fa, -, l1, -⟩ := hL
  unfold eEv_does
  rw [hcl_of h1, wt_bd_s]
  have wear : ∀ v : Int32, c = 5 → y = v → wp (eX8_does τ a s) (fun t => ScR t s la wa lw (sWr x p v) ∧ Fr [la, wa] τ t ∧ t.2 = τ.2) := by
    intro v hc hy
    subst hc; subst hy
    unfold eX8_does
    rw [hgA_of (cs := [9]) (k := 2) s1 rfl rfl, wt_bd_s, hgI_of (cs := [5]) (k := 0) h1 rfl rfl, wt_bd_s, hgI_of (cs := [5]) (k := 2) h1 rfl rfl, wt_bd_s, haI_of s3, wt_bd_s, ep, wt_ck_t (by show vp_in (nI p) 10; rw [vp_nI (by omega)]; exact hp), nI_clamp (by omega), wp_lt, wp_some]
    exact ⟨hF0.wr y, hF0.frW (by simp), rfl⟩
  unfold sDo
  rw [hpc]
  rcases h2 with ⟨k, e1, e2⟩ | ⟨k, e1, e2⟩ | ⟨k, e1, e2⟩ | ⟨k, e1, e2⟩ | ⟨k, e1, e2⟩
  · rw [if_pos e1, if_pos k]
    exact wear (e 2) e1 e2
  · rw [if_pos e1, if_neg (by rw [k]; decide), if_pos k]
    exact wear (-1) e1 e2
  · rw [if_neg (by omega), if_pos e1, if_neg (by rw [k]; decide), if_neg (by rw [k]; decide), if_pos k]
    subst e1; subst e2
    rcases hk with ⟨z, _⟩ | z | ⟨-, o, ho2, eo⟩ | z | ⟨z, _⟩
    · rw [z] at k; exact absurd k (by decide)
    · rw [z] at k; exact absurd k (by decide)
    · unfold eX9_does
      rw [hgI_of (cs := [6]) (k := 0) h1 rfl rfl, wt_bd_s, hgI_of (cs := [6]) (k := 2) h1 rfl rfl, wt_bd_s, wt_ck_t (hcl_of s1), ep, eo, nI_clamp (by omega)]
      refine wp_ap (ctouch hL0 hB h0 hW hp ho2) fun t ht => ?_
      rw [wp_some]
      exact ht
    · rw [z] at k; exact absurd k (by decide)
    · rw [z] at k; exact absurd k (by decide)
  · rw [if_neg (by omega), if_neg (by omega), if_pos e1, if_neg (by rw [k]; decide), if_neg (by rw [k]; decide), if_neg (by rw [k]; decide), if_pos k]
    subst e1; subst e2
    unfold eX10_does
    rw [hgI_of (cs := [7]) (k := 0) h1 rfl rfl, wt_bd_s, hgI_of (cs := [7]) (k := 2) h1 rfl rfl, wt_bd_s, if_pos rfl, hgA_of (cs := [9]) (k := 0) s1 rfl rfl, wt_bd_s, hgI_of (cs := [1]) (k := 4) l1 rfl rfl, wt_bd_s, wt_bd_s, wt_ck_t (hcl_of s1), ep]
    refine wp_ap (cstay h0 hp) fun t ht => ?_
    rw [wp_some]
    exact ht
  · rw [if_neg (by omega), if_neg (by omega), if_pos e1, if_neg (by rw [k]; decide), if_neg (by rw [k]; decide), if_neg (by rw [k]; decide), if_neg (by rw [k]; decide), if_pos k]
    subst e1; subst e2
    rcases hk with ⟨z, _⟩ | z | ⟨z, _⟩ | z | ⟨-, o, ho2, eo⟩
    · rw [z] at k; exact absurd k (by decide)
    · rw [z] at k; exact absurd k (by decide)
    · rw [z] at k; exact absurd k (by decide)
    · rw [z] at k; exact absurd k (by decide)
    · unfold eX10_does
      rw [hgI_of (cs := [7]) (k := 0) h1 rfl rfl, wt_bd_s, hgI_of (cs := [7]) (k := 2) h1 rfl rfl, wt_bd_s, if_neg (by rw [eo, nI_neg (by omega)]; exact id), wt_bd_s, wt_bd_s, wt_ck_t (hcl_of s1), ep]
      refine wp_ap (cstay h0 hp) fun t ht => ?_
      rw [wp_some]
      exact ht
/-- the story at sl: m events, the rows ev; its cells under B -/
def SyR (τ : HP) (B sl m : Nat) (ev : Nat → Nat → Int32) : Prop := ∃ d es, LA τ sl d es ∧ es.length = m ∧ sl < B ∧ d < B ∧ ∀ k, k < m → ∃ a, es[k]? = some a ∧ a < B ∧ EvR τ a (ev k)
theorem LA.keepB {τ τ' : HP} {l d B : Nat} {es : List Nat} (h : LA τ l d es) (hq : ∀ q, q < B → τ'.1 q = τ.1 q) (hl : l < B) (hd : d < B) : LA τ' l d es := by
  obtain ⟨mc, cap, f, h1, h2, h3⟩ := h
  exact ⟨mc, cap, f, (hq l hl).trans h1, (hq d hd).trans h2, h3⟩
theorem SyR.keep {τ τ' : HP} {B sl m : Nat} {ev : Nat → Nat → Int32} (h : SyR τ B sl m ev) (hq : ∀ q, q < B → τ'.1 q = τ.1 q) : SyR τ' B sl m ev := by
  obtain ⟨d, es, h1, h2, h3, h4, h5⟩ := h
  refine ⟨d, es, h1.keepB hq h3 h4, h2, h3, h4, fun k hk => ?_⟩
  obtain ⟨a, a1, a2, a3⟩ := h5 k hk
  exact ⟨a, a1, a2, a3.keep (hq a a2)⟩
/-- which events come: one left out; by way of two places to a third -/
def kpF (lo fi se th : Int32) (ev : Nat → Nat → Int32) (k : Nat) : Bool :=
  !decide (nI k = lo) && (decide (fi = -1) || !decide (ev k 0 = 2) || decide ((ev k 1 = fi ∧ ev k 2 = th) ∨ (ev k 1 = th ∧ ev k 2 = fi)) || decide ((ev k 1 = se ∧ ev k 2 = th) ∨ (ev k 1 = th ∧ ev k 2 = se)))
theorem comes_e {σ : MSt} {st k : Nat} : dX4_comes σ (nI k) (20 * st + k) = some (if kpF (σ.1 41) (σ.1 45) (σ.1 46) (σ.1 47) (fun k => σ.2.2 26 (20 * st + k)) k = true then 1 else 0) := by
  have v0 : vp_in (0 : Int32) 4 := by rw [vp_in_iff]; decide
  have v1 : vp_in (1 : Int32) 4 := by rw [vp_in_iff]; decide
  have v2 : vp_in (2 : Int32) 4 := by rw [vp_in_iff]; decide
  have c0 : (0 : Int32).toNatClampNeg = 0 := by decide
  have c1 : (1 : Int32).toNatClampNeg = 1 := by decide
  have c2 : (2 : Int32).toNatClampNeg = 2 := by decide
  unfold dX4_comes kpF
  rw [c0, c1, c2]
  by_cases h1 : nI k = σ.1 41
  · rw [if_pos h1]; simp [h1]
  · rw [if_neg h1]
    by_cases h2 : σ.1 45 = -1
    · rw [if_pos h2]; simp [h1, h2]
    · rw [if_neg h2, wt_ck_t v0]
      by_cases h3 : σ.2.2 26 (20 * st + k) 0 = 2
      · rw [if_pos h3, wt_ck_t v1, wt_ck_t v2, areTwo_e, wt_bd_s]
        by_cases h4 : (σ.2.2 26 (20 * st + k) 1 = σ.1 45 ∧ σ.2.2 26 (20 * st + k) 2 = σ.1 47) ∨ (σ.2.2 26 (20 * st + k) 1 = σ.1 47 ∧ σ.2.2 26 (20 * st + k) 2 = σ.1 45)
        · rw [if_pos h4, if_neg (by decide)]
          simp only [h1, h2, h3, h4, decide_true, decide_false, Bool.not_false, Bool.true_and, Bool.not_true, Bool.false_or, Bool.or_true, Bool.true_or, if_true]
        · rw [if_neg h4, if_pos rfl, wt_ck_t v1, wt_ck_t v2, areTwo_e, wt_bd_s]
          by_cases h5 : (σ.2.2 26 (20 * st + k) 1 = σ.1 46 ∧ σ.2.2 26 (20 * st + k) 2 = σ.1 47) ∨ (σ.2.2 26 (20 * st + k) 1 = σ.1 47 ∧ σ.2.2 26 (20 * st + k) 2 = σ.1 46)
          · rw [if_pos h5, if_neg (by decide)]
            simp only [h1, h2, h3, h4, h5, decide_true, decide_false, Bool.not_false, Bool.true_and, Bool.not_true, Bool.false_or, Bool.or_true, Bool.true_or, if_true]
          · rw [if_neg h5, if_pos rfl]
            simp [h1, h2, h3, h4, h5]
      · rw [if_neg h3]; simp [h1, h2, h3]
/-- the run at r of the story sl, in the outer object o -/
def RnR (τ : HP) (r sl o : Nat) (lo fi se th : Int32) (mv : Value) : Prop := τ.1 r = some (.inr (8, [.ref sl, .int lo, mv, .int fi, .int se, .int th, .ref o]))
/-- the touch that comes besides -/
def MoR (τ : HP) (mv : Value) (mo : Option (Nat × Nat × Nat)) : Prop := match mo with
  | none => mv = .null
  | some (a, b, t) => a < 10 ∧ b < 10 ∧ t < 100 ∧ ∃ q, mv = .ref q ∧ τ.1 q = some (.inr (6, [.int (nI a), .int (nI t), .int (nI b)]))
theorem cleft {τ : HP} {B r sl o m k : Nat} {lo fi se th : Int32} {mv : Value} {ev : Nat → Nat → Int32} (hr : RnR τ r sl o lo fi se th mv) (hS : SyR τ B sl m ev) (hk : k < m) : eX11_isLeftOut τ r (nI k) = some (if kpF lo fi se th ev k = true then 0 else 1) := by
  obtain ⟨d, es, h1, h2, h3, h4, h5⟩ := hS
  obtain ⟨a, a1, a2, a3⟩ := h5 k hk
  obtain ⟨c, q1, q2, q3, q4⟩ := a3.cl
  unfold eX11_isLeftOut
  rw [hgA_of (cs := [8]) (k := 0) hr rfl rfl, wt_bd_s, wt_ck_t h1.cl, jget h1 a1, wt_bd_s, q1, wt_bd_s, wt_ck_t q2, hgI_of (cs := [8]) (k := 1) hr rfl rfl, wt_bd_s]
  unfold kpF
  by_cases c1 : nI k = lo
  · rw [if_pos c1]; simp [c1]
  · rw [if_neg c1, hgI_of (cs := [8]) (k := 3) hr rfl rfl, wt_bd_s]
    by_cases c2 : fi = -1
    · rw [if_pos c2]; simp [c1, c2]
    · rw [if_neg c2, wt_bd_s, wt_ck_t q2]
      by_cases c3 : c = 6
      · have k2 := q4.mp c3
        have tt : ∀ u v : Int32, eEv_isTouch τ a u v = some (if (ev k 1 = u ∧ ev k 2 = v) ∨ (ev k 1 = v ∧ ev k 2 = u) then 1 else 0) := by
          intro u v
          obtain ⟨c', y, g1, g2⟩ := a3
          have hc' : c' = 6 := by rw [hcl_of g1] at q1; cases q1; exact c3
          have hy : y = ev k 2 := by
            rcases g2 with ⟨z, _⟩ | ⟨z, _⟩ | ⟨_, _, z⟩ | ⟨z, _⟩ | ⟨z, _⟩
            · rw [z] at k2; exact absurd k2 (by decide)
            · rw [z] at k2; exact absurd k2 (by decide)
            · exact z
            · rw [z] at k2; exact absurd k2 (by decide)
            · rw [z] at k2; exact absurd k2 (by decide)
          subst hc'; subst hy
          unfold eEv_isTouch
          rw [hcl_of g1, wt_bd_s, if_neg (by decide), if_pos rfl]
          unfold eX9_isTouch
          rw [hgI_of (cs := [6]) (k := 0) g1 rfl rfl, wt_bd_s, hgI_of (cs := [6]) (k := 2) g1 rfl rfl]
          by_cases z1 : ev k 1 = u <;> by_cases z2 : ev k 2 = v <;> by_cases z3 : ev k 1 = v <;> by_cases z4 : ev k 2 = u <;> simp [z1, z2, z3, z4, wt_bd, wt_rs] <;> simp_all
        rw [wp_lt_id, if_pos c3, if_neg (by decide), hgI_of (cs := [8]) (k := 5) hr rfl rfl, wt_bd_s, wt_bd_s, tt, wt_bd_s]
        by_cases c4 : (ev k 1 = th ∧ ev k 2 = fi) ∨ (ev k 1 = fi ∧ ev k 2 = th)
        · have c4' : (ev k 1 = fi ∧ ev k 2 = th) ∨ (ev k 1 = th ∧ ev k 2 = fi) := c4.symm
          rw [if_pos c4, if_neg (by decide)]
          simp only [c1, c2, k2, c4', decide_true, decide_false, Bool.not_false, Bool.true_and, Bool.not_true, Bool.false_or, Bool.or_true, Bool.true_or, if_true]
        · have c4' : ¬ ((ev k 1 = fi ∧ ev k 2 = th) ∨ (ev k 1 = th ∧ ev k 2 = fi)) := fun z => c4 z.symm
          rw [if_neg c4, if_pos rfl, wt_bd_s, hgI_of (cs := [8]) (k := 4) hr rfl rfl, wt_bd_s, tt, wt_bd_s]
          by_cases c5 : (ev k 1 = th ∧ ev k 2 = se) ∨ (ev k 1 = se ∧ ev k 2 = th)
          · have c5' : (ev k 1 = se ∧ ev k 2 = th) ∨ (ev k 1 = th ∧ ev k 2 = se) := c5.symm
            rw [if_pos c5, if_neg (by decide)]
            simp only [c1, c2, k2, c4', c5', decide_true, decide_false, Bool.not_false, Bool.true_and, Bool.not_true, Bool.false_or, Bool.or_true, Bool.true_or, if_true]
          · have c5' : ¬ ((ev k 1 = se ∧ ev k 2 = th) ∨ (ev k 1 = th ∧ ev k 2 = se)) := fun z => c5 z.symm
            rw [if_neg c5, if_pos rfl]
            simp only [c1, c2, k2, c4', c5', decide_true, decide_false, Bool.not_false, Bool.true_and, Bool.not_true, Bool.false_or, Bool.or_false, if_false, Bool.false_eq_true]
      · have k2 : ¬ ev k 0 = 2 := fun z => c3 (q4.mpr z)
        rw [wp_lt_id, if_neg c3, if_pos rfl]
        simp [c1, c2, k2]
/-- what a run rests on, in any heap that has but grown -/
def RnC (τ0 : HP) (B r sl o lw m : Nat) (w : LW) (cm al : Nat → Int32) (tk cl : Int32) (ev : Nat → Nat → Int32) (lo fi se th : Int32) (mo : Option (Nat × Nat × Nat)) : Prop :=
  ∃ mv, (∀ t, Fr [] τ0 t → LwR t B lw w cm al tk cl ∧ SyR t B sl m ev ∧ RnR t r sl o lo fi se th mv ∧ MoR t mv mo ∧ ∃ fs, t.1 o = some (.inr (0, fs)) ∧ fs[0]? = some (.ref lw)) ∧ B ≤ τ0.2 ∧ m ≤ 20 ∧ (∀ k, k < m → EvOk (ev k)) ∧ LwB w ∧ ∀ k, k < 10 → In (cm k) 20
theorem RnC.of {τ0 t : HP} {B r sl o lw m : Nat} {w : LW} {cm al : Nat → Int32} {tk cl : Int32} {ev : Nat → Nat → Int32} {lo fi se th : Int32} {mo : Option (Nat × Nat × Nat)} (h : RnC τ0 B r sl o lw m w cm al tk cl ev lo fi se th mo) (hF : Fr [] τ0 t) : RnC t B r sl o lw m w cm al tk cl ev lo fi se th mo := by
  obtain ⟨mv, h1, h2, h3⟩ := h
  exact ⟨mv, fun u hu => h1 u (hF.trans hu), Nat.le_trans h2 hF.2.1, h3⟩
theorem MoR.ok {τ : HP} {mv : Value} {mo : Option (Nat × Nat × Nat)} (h : MoR τ mv mo) : MoOk mo := by
  intro a b t e
  subst e
  exact ⟨h.1, h.2.1⟩
/-- the events of an hour -/
theorem cevs {τ : HP} {B r sl o lw m la wa i k : Nat} {w : LW} {cm al : Nat → Int32} {tk cl : Int32} {ev : Nat → Nat → Int32} {lo fi se th : Int32} {mo : Option (Nat × Nat × Nat)} {mv : Value} {v0 : Int32} {z u : HP} {x : Sc}
    (hK : ∀ t, Fr [] τ t → LwR t B lw w cm al tk cl ∧ SyR t B sl m ev ∧ RnR t r sl o lo fi se th mv ∧ MoR t mv mo ∧ ∃ fs, t.1 o = some (.inr (0, fs)) ∧ fs[0]? = some (.ref lw)) (hB : B ≤ τ.2) (hm : m ≤ 20) (hev : ∀ k, k < m → EvOk (ev k))
    (hla : τ.2 ≤ la) (hwa : τ.2 ≤ wa) (hi : i < 200) (hk : k ≤ m) (hs : ScR u τ.2 la wa lw x) (hW : ScW x) (hF : Fr [] τ u) : wp (wt_whC (bX11_at_2_2 τ r (-1) (v0, nI i, z)) (nI k, u)) (fun q => ∃ t', q = .inl (nI (sEvs w ev (kpF lo fi se th ev) i (m - k) k x).1, t') ∧ ScR t' τ.2 la wa lw (sEvs w ev (kpF lo fi se th ev) i (m - k) k x).2 ∧ Fr [] τ t' ∧ t'.2 = u.2) := by
  refine wp_loop (fun n v => ∃ j y t, n = m - j ∧ j ≤ m ∧ ScW y ∧ v = (nI j, t) ∧ ScR t τ.2 la wa lw y ∧ Fr [] τ t ∧ t.2 = u.2 ∧ sEvs w ev (kpF lo fi se th ev) i (m - j) j y = sEvs w ev (kpF lo fi se th ev) i (m - k) k x) ?_ (m - k) _ ⟨k, x, u, rfl, hk, hW, rfl, hs, hF, rfl, rfl⟩
  rintro n v ⟨j, y, t, rfl, hj, hy, rfl, ht, hFt, ht2, e⟩
  rw [← e]
  obtain ⟨hL, hS, hr, -, -⟩ := hK t hFt
  have hS0 := hS
  obtain ⟨d, es, h1, h2, h3, h4, h5⟩ := hS
  unfold bX11_at_2_2
  dsimp only
  rw [hgA_of (cs := [8]) (k := 0) hr rfl rfl, wt_bd_s, wt_ck_t h1.cl, jsize h1, wt_bd_s, h2]
  rcases Nat.lt_or_ge j m with hjm | hjm
  · obtain ⟨a, a1, a2, a3⟩ := h5 j hjm
    obtain ⟨c, q1, q2, q3, q4⟩ := a3.cl
    have en : m - j = (m - (j + 1)) + 1 := by omega
    have hstep : sEvs w ev (kpF lo fi se th ev) i (m - j) j y = (if ev j 3 = nI i then sEvs w ev (kpF lo fi se th ev) i (m - (j + 1)) (j + 1) (if kpF lo fi se th ev j = true then sDo w (ev j) y else y) else (j, y)) := by
      rw [en]; rfl
    rw [hstep, wp_ite, if_neg (by rw [nI_leI (by omega) (by omega)]; omega), wt_bd_s, wt_ck_t h1.cl, jget h1 a1, wt_bd_s, q1, wt_bd_s, wt_ck_t q2, a3.hour, wt_bd_s, wp_ite]
    by_cases ch : ev j 3 = nI i
    · rw [if_pos ch, if_pos ch, wp_ite, if_neg (by rw [nI_neg (by omega)]; exact id), wt_ck_t (hcl_of hr), cleft hr hS0 hjm, wt_bd_s]
      by_cases ck : kpF lo fi se th ev j = true
      · rw [if_pos ck, if_pos ck, wp_ite, if_pos rfl, wt_bd_s, wt_ck_t h1.cl, jget h1 a1, wt_bd_s, q1, wt_bd_s, wt_ck_t q2]
        refine wp_ap (cdoes hL (by omega) ht hy a3 (hev j hjm)) fun t2 ⟨g1, g2, g3⟩ => ?_
        rw [wp_lt, wp_some, lpo_l, nI_1]
        exact ⟨_, by omega, j + 1, _, t2, rfl, hjm, ScW_do (hev j hjm) hy, rfl, g1, hFt.then g2 (fun q hq => Or.inr (by
          have : q = la ∨ q = wa := by simpa using hq
          omega)), g3.trans ht2, rfl⟩
      · rw [if_neg ck, if_neg ck, wp_ite, if_neg (by decide), wp_lt, wp_some, lpo_l, nI_1]
        exact ⟨_, by omega, j + 1, _, t, rfl, hjm, hy, rfl, ht, hFt, ht2, rfl⟩
    · rw [if_neg ch, if_neg ch, wp_some, lpo_r]
      exact ⟨t, rfl, ht, hFt, ht2⟩
  · have hj2 : j = m := by omega
    subst hj2
    have en : j - j = 0 := by omega
    rw [wp_ite, if_pos (by rw [nI_leI (by omega) (by omega)]; omega), wp_some, lpo_r, en]
    exact ⟨t, rfl, ht, hFt, ht2⟩
theorem cat {τ : HP} {B r sl o lw m h : Nat} {w : LW} {cm al : Nat → Int32} {tk cl : Int32} {ev : Nat → Nat → Int32} {lo fi se th : Int32} {mo : Option (Nat × Nat × Nat)} (hf : Wf τ) (hC : RnC τ B r sl o lw m w cm al tk cl ev lo fi se th mo) (hh : h < 100) : wp (eX11_at τ r (nI h)) (fun out => ∃ la wa, τ.2 ≤ out.1 ∧ τ.2 ≤ la ∧ τ.2 ≤ wa ∧ ScR out.2 out.1 la wa lw (nRun w m ev (kpF lo fi se th ev) mo h) ∧ Fr [] τ out.2 ∧ out.2.2 = τ.2 + 3) := by
  obtain ⟨mv, hK, hB, hm, hev, hw, hcm⟩ := hC
  obtain ⟨-, -, hr0, hmo0, fs, ho0, ho1⟩ := hK τ Fr.rfl
  have hmok := hmo0.ok
  have hE := sRun_ok (w := w) (kp := kpF lo fi se th ev) (mo := mo) (x0 := sc0) hev
  unfold eX11_at
  rw [wt_ck_t (hcl_of hr0)]
  have key : wp (eX11_at_2 τ r (nI h) (-1)) (fun out => ∃ la wa, τ.2 ≤ out.1 ∧ τ.2 ≤ la ∧ τ.2 ≤ wa ∧ ScR out.2 out.1 la wa lw (nRun w m ev (kpF lo fi se th ev) mo h) ∧ Fr [] τ out.2 ∧ out.2.2 = τ.2 + 3) := by
    unfold eX11_at_2
    rw [wp_lt]
    have a1 : (hnew τ (.inr (9, [.null, .null, .null]))).1 τ.2 = some (.inr (9, [.null, .null, .null])) := hnew_eq
    have aF : Fr [] τ (hnew τ (.inr (9, [.null, .null, .null]))) := Fr.new
    have a2 : (hnew τ (.inr (9, [.null, .null, .null]))).2 = τ.2 + 1 := rfl
    have aw := hf.new (x := .inr (9, [.null, .null, .null]))
    generalize hnew τ (.inr (9, [.null, .null, .null])) = t1 at a1 aF a2 aw
    obtain ⟨-, -, hr1, -, fs1, ho2, ho3⟩ := hK t1 aF
    rw [hgA_of (cs := [8]) (k := 6) hr1 rfl rfl, wt_bd_s, hgA_of (cs := [0]) (k := 0) ho2 rfl ho3, wt_bd_s]
    refine wp_ap (cinit (x0 := sc0) aw a1) fun t2 ⟨la, wa, b1, b2, b3, b4, b5⟩ => ?_
    have bF : Fr [] τ t2 := aF.then b4 fun q hq => Or.inr (by
      have : q = τ.2 := by simpa using hq
      omega)
    have hla : τ.2 ≤ la := by omega
    have hwa : τ.2 ≤ wa := by omega
    have key2 : wp (wt_whC (bX11_at_2_1 τ r (nI h) (-1)) ((0 : Int32), (0 : Int32), t2)) (fun q => ∃ t, q = .inl t ∧ ScR t τ.2 la wa lw (nRun w m ev (kpF lo fi se th ev) mo h) ∧ Fr [] τ t ∧ t.2 = τ.2 + 3) := by
      refine wp_for (h + 1) 0 (fun i v => ∃ t, v = (nI (sRun w m ev (kpF lo fi se th ev) mo sc0 i).1, nI i, t) ∧ ScR t τ.2 la wa lw (sRun w m ev (kpF lo fi se th ev) mo sc0 i).2 ∧ Fr [] τ t ∧ t.2 = τ.2 + 3) (by omega) ⟨t2, rfl, b3, bF, by omega⟩ ?_ ?_
      · rintro i v hi ⟨t, rfl, hs, hF, ht⟩
        obtain ⟨hL, -, -, -, -⟩ := hK t hF
        obtain ⟨hWi, hmi⟩ := hE i
        unfold bX11_at_2_1
        dsimp only
        rw [wp_ite, if_neg (by rw [nI_ltI (by omega) (by omega)]; omega)]
        have hour : wp (if nI i ≤ 0 then (some t) else (wt_ck (hcl t τ.2 = some 9) <| wt_bd (eX12_hour t τ.2) fun w25 => some (w25))) (fun u => ScR u τ.2 la wa lw (if i = 0 then (sRun w m ev (kpF lo fi se th ev) mo sc0 i).2 else sHourK w.2.2.2 (sRun w m ev (kpF lo fi se th ev) mo sc0 i).2 10 0) ∧ Fr [] τ u ∧ u.2 = τ.2 + 3) := by
          by_cases c : i = 0
          · subst c
            rw [if_pos (by rw [nI_0]; decide), wp_some, if_pos rfl]
            exact ⟨hs, hF, ht⟩
          · rw [if_neg (nI_nle (by omega) (by omega)), if_neg c]
            have hs0 := hs
            obtain ⟨f, g, hs1, -⟩ := hs
            rw [wt_ck_t (hcl_of hs1)]
            refine wp_ap (chour hL (by omega) hs0) fun u hu => ?_
            rw [wp_some]
            exact ⟨hu.1, hF.then hu.2.1 (fun q hq => Or.inr (by
              have : q = la ∨ q = wa := by simpa using hq
              omega)), hu.2.2.trans ht⟩
        refine wp_ap hour fun u ⟨u1, u2, u3⟩ => ?_
        have hWi2 : ScW (if i = 0 then (sRun w m ev (kpF lo fi se th ev) mo sc0 i).2 else sHourK w.2.2.2 (sRun w m ev (kpF lo fi se th ev) mo sc0 i).2 10 0) := by
          by_cases c : i = 0
          · rw [if_pos c]; exact hWi
          · rw [if_neg c]; exact hWi
        refine wp_ap (cevs hK hB hm hev hla hwa (by omega) hmi u1 hWi2 u2) fun q ⟨t', e, g1, g2, g3⟩ => ?_
        subst e
        rw [rs_l]
        dsimp only
        obtain ⟨hW3, -, -⟩ := sEvs_ok (w := w) (kp := kpF lo fi se th ev) (h := i) hev (m - (sRun w m ev (kpF lo fi se th ev) mo sc0 i).1) (sRun w m ev (kpF lo fi se th ev) mo sc0 i).1 _ (by omega) hWi2
        obtain ⟨hL', -, hr', hmo', -⟩ := hK t' g2
        have fin : ∀ (t4 : HP) (y : Sc), ScR t4 τ.2 la wa lw y → Fr [] τ t4 → t4.2 = τ.2 + 3 → y = (sRun w m ev (kpF lo fi se th ev) mo sc0 (i + 1)).2 → lpo (fun v => ∃ t, v = (nI (sRun w m ev (kpF lo fi se th ev) mo sc0 (i + 1)).1, nI (i + 1), t) ∧ ScR t τ.2 la wa lw (sRun w m ev (kpF lo fi se th ev) mo sc0 (i + 1)).2 ∧ Fr [] τ t ∧ t.2 = τ.2 + 3) (fun q : HP ⊕ (Nat × HP) => ∃ t, q = .inl t ∧ ScR t τ.2 la wa lw (nRun w m ev (kpF lo fi se th ev) mo h) ∧ Fr [] τ t ∧ t.2 = τ.2 + 3) (.inl (nI (sRun w m ev (kpF lo fi se th ev) mo sc0 (i + 1)).1, nI (i + 1), t4)) := by
          intro t4 y y1 y2 y3 y4
          subst y4
          rw [lpo_l]
          exact ⟨t4, rfl, y1, y2, y3⟩
        cases mo with
        | none =>
          have hmv : mv = .null := hmo'
          subst hmv
          rw [hgR_nul (cs := [8]) (k := 2) hr' rfl rfl, wt_bd_s, om_n, wp_lt, wp_some, nI_1]
          exact fin t' _ g1 g2 (g3.trans u3) rfl
        | some abt =>
          obtain ⟨a, b, tt⟩ := abt
          obtain ⟨ha, hb, htt, q, eq1, eq2⟩ := hmo'
          subst eq1
          rw [hgR_of (cs := [8]) (k := 2) hr' rfl rfl, wt_bd_s, om_s, hgA_of (cs := [8]) (k := 2) hr' rfl rfl, wt_bd_s, hgI_of (cs := [5, 6, 7]) (k := 1) eq2 rfl rfl, wt_bd_s, wp_ite]
          by_cases c : tt = i
          · rw [if_pos (by rw [c]), wt_bd_s]
            unfold eEv_does
            rw [hcl_of eq2, wt_bd_s, if_neg (by decide), if_pos rfl]
            unfold eX9_does
            rw [hgI_of (cs := [6]) (k := 0) eq2 rfl rfl, wt_bd_s, hgI_of (cs := [6]) (k := 2) eq2 rfl rfl, wt_bd_s, wt_ck_t (by
              obtain ⟨f, g, hs1, -⟩ := g1
              exact hcl_of hs1)]
            rw [wp_bd, wp_bd]
            refine wp_mono (ctouch hL' (by omega) g1 hW3 ha hb) fun t5 ⟨k1, k2, k3⟩ => ?_
            rw [wp_some, wp_lt, wp_some, nI_1]
            refine fin t5 _ k1 (g2.then k2 (fun q hq => Or.inr (by
              have : q = la ∨ q = wa := by simpa using hq
              omega))) (k3.trans (g3.trans u3)) ?_
            show _ = sMore w (some (a, b, tt)) i _
            unfold sMore
            dsimp only
            rw [if_pos c]
          · rw [if_neg (fun z => c ((nI_eq (by omega) (by omega)).mp z)), wp_lt, wp_some, nI_1]
            refine fin t' _ g1 g2 (g3.trans u3) ?_
            show _ = sMore w (some (a, b, tt)) i _
            unfold sMore
            dsimp only
            rw [if_neg c]
      · rintro v ⟨t, rfl, hs, hF, ht⟩
        unfold bX11_at_2_1
        dsimp only
        rw [wp_ite, if_pos (by rw [nI_ltI (by omega) (by omega)]; omega), wp_some, lpo_r]
        exact ⟨t, rfl, hs, hF, ht⟩
    refine wp_ap key2 fun q ⟨t, e, h1, h2, h3⟩ => ?_
    subst e
    rw [rs_l, wp_some]
    exact ⟨la, wa, Nat.le_refl _, hla, hwa, h1, h2, h3⟩
  refine wp_ap key fun q hq => ?_
  rw [wp_some]
  exact hq
/-- the find at a is the row q (place, hour, sort, many) -/
def FdR (τ : HP) (a : Nat) (q : Nat → Int32) : Prop := τ.1 a = some (.inr (10, [.int (q 0), .int (q 1), .int (q 2), .int (q 3)]))
theorem RnC.B {τ : HP} {B r sl o lw m : Nat} {w : LW} {cm al : Nat → Int32} {tk cl : Int32} {ev : Nat → Nat → Int32} {lo fi se th : Int32} {mo : Option (Nat × Nat × Nat)} (hC : RnC τ B r sl o lw m w cm al tk cl ev lo fi se th mo) (h : Nat) : ScB (nRun w m ev (kpF lo fi se th ev) mo h) := by
  obtain ⟨mv, hK, hB, hm, hev, hw, hcm⟩ := hC
  obtain ⟨-, -, hr0, hmo0, -⟩ := hK τ Fr.rfl
  exact sRun_B hmo0.ok hw hev (h + 1)
theorem crpile {τ : HP} {B r sl o lw m a : Nat} {w : LW} {cm al : Nat → Int32} {tk cl : Int32} {ev : Nat → Nat → Int32} {lo fi se th : Int32} {mo : Option (Nat × Nat × Nat)} {q : Nat → Int32} (hf : Wf τ) (hC : RnC τ B r sl o lw m w cm al tk cl ev lo fi se th mo) (ha : FdR τ a q) (hq : FdOk q) : wp (eX11_pile τ r a) (fun out => out.1 = nI (fPile cm al (nRun w m ev (kpF lo fi se th ev) mo) q) ∧ Fr [] τ out.2 ∧ out.2.2 = τ.2 + 3) := by
  have hB := fPile_le (al := al) hq (by obtain ⟨mv, hK, hB, hm, hev, hw, hcm⟩ := hC; exact hcm) hC.B
  obtain ⟨⟨p, hp, ep⟩, ⟨h, hh, eh⟩, ⟨so, hso, eso⟩, -⟩ := hq
  have hr : ∃ mv, RnR τ r sl o lo fi se th mv := by
    obtain ⟨mv, hK, -⟩ := hC
    exact ⟨mv, (hK τ Fr.rfl).2.2.1⟩
  obtain ⟨mv, hr⟩ := hr
  unfold eX11_pile
  rw [hgI_of (cs := [10]) (k := 1) ha rfl rfl, wt_bd_s, wt_ck_t (hcl_of hr), eh]
  refine wp_ap (cat hf hC hh) fun out ⟨la, wa, h1, h2, h3, h4, h5, h6⟩ => ?_
  have ha2 : out.2.1 a = some (.inr (10, [.int (q 0), .int (q 1), .int (q 2), .int (q 3)])) := h5.at hf ha (by simp)
  have hL : LwR out.2 B lw w cm al tk cl := by
    obtain ⟨mv, hK, -⟩ := hC
    exact (hK out.2 h5).1
  rw [hgI_of (cs := [10]) (k := 0) ha2 rfl rfl, wt_bd_s, hgI_of (cs := [10]) (k := 2) ha2 rfl rfl, wt_bd_s, wt_ck_t (by
    obtain ⟨f, g, hs1, -⟩ := h4
    exact hcl_of hs1), ep, eso, cpile hL h4 hp hso, wt_bd_s, wp_some]
  refine ⟨?_, h5, h6⟩
  have := hB.2
  rw [ep, eh, eso, nI_clamp (by omega), nI_clamp (by omega), nI_clamp (by omega)] at this
  exact this
/-! THE PLAIN LAW, 10: the component's great numbers -/
set_option maxRecDepth 100000
/-- the number N at g, its places at d, sz of them in use -/
def GP (τ : HP) (g d : Nat) (f : Nat → Int32) (sz N : Nat) : Prop := τ.1 g = some (.inr (11, [.ref d, .int (nI sz)])) ∧ τ.1 d = some (.inl (0, 310, .inl f)) ∧ 1 ≤ sz ∧ sz ≤ 310 ∧ N < 10000 ^ sz ∧ ∀ k, k < sz → f k = nI (dg N k)
def GR (τ : HP) (g d N : Nat) : Prop := ∃ f sz, GP τ g d f sz N ∧ (sz = 1 ∨ dg N (sz - 1) ≠ 0)
theorem GP.ne {τ : HP} {g d sz N : Nat} {f : Nat → Int32} (h : GP τ g d f sz N) : g ≠ d := by
  obtain ⟨h1, h2, -⟩ := h
  intro e
  rw [e, h2] at h1
  cases h1
theorem GR.cl {τ : HP} {g d N : Nat} (h : GR τ g d N) : hcl τ g = some 11 := by
  obtain ⟨f, sz, ⟨h1, -⟩, -⟩ := h
  exact hcl_of h1
theorem GR.keep {W : List Nat} {τ τ' : HP} {g d N : Nat} (h : GR τ g d N) (hF : Fr W τ τ') (hf : Wf τ) (hg : g ∉ W) (hd : d ∉ W) : GR τ' g d N := by
  obtain ⟨f, sz, ⟨h1, h2, h3⟩, h4⟩ := h
  exact ⟨f, sz, ⟨hF.at hf h1 hg, hF.at hf h2 hd, h3⟩, h4⟩
theorem GR.ne {τ : HP} {g d N : Nat} (h : GR τ g d N) : g ≠ d := by
  obtain ⟨f, sz, h1, -⟩ := h
  exact h1.ne
theorem gtrim {τ : HP} {g d sz N : Nat} {f : Nat → Int32} (h : GP τ g d f sz N) : wp (eX14_trim τ g) (fun t => GR t g d N ∧ Fr [g, d] τ t ∧ t.2 = τ.2) := by
  unfold eX14_trim
  rw [wp_bd]
  simp only [wp_some]
  refine wp_loop (fun n v => GP v g d f n N ∧ Fr [g, d] τ v ∧ v.2 = τ.2) ?_ sz _ ⟨h, Fr.rfl, rfl⟩
  rintro n t ⟨hp, hF, ht⟩
  have hp0 := hp
  have hne := hp.ne
  obtain ⟨h1, h2, h3, h4, h5, h6⟩ := hp
  unfold bX14_trim_1
  rw [hgI_of (cs := [11]) (k := 1) h1 rfl rfl, wt_bd_s, wp_ite]
  by_cases c : n ≤ 1
  · rw [if_pos (by rw [il_le2 (by omega) (by omega)]; exact c), wp_some, lpo_r]
    exact ⟨⟨f, n, hp0, Or.inl (by omega)⟩, hF, ht⟩
  · have e : nI n - 1 = nI (n - 1) := pk_sub (by omega)
    have hd := dg_lt N (n - 1)
    rw [if_neg (by rw [il_le2 (by omega) (by omega)]; exact c), hgA_of (cs := [11]) (k := 0) h1 rfl rfl, wt_bd_s, wt_bd_s, haI_of h2, wt_bd_s, e, wt_ck_t (by rw [vp_nI (by omega)]; show _ < 310; omega), wp_ite]
    rw [nI_clamp (by omega), show ((310, f) : Nat × (Nat → Int32)).2 (n - 1) = nI (dg N (n - 1)) from h6 (n - 1) (by omega)]
    by_cases c2 : dg N (n - 1) = 0
    · rw [if_pos (by rw [c2]; rfl), wt_bd_s, hp_of (cs := [11]) (k := 1) h1 rfl (by omega) (by simp), wt_bd_s, wp_some, lpo_l, e]
      refine ⟨n - 1, by omega, ⟨hst_eq, (hst_ne (Ne.symm hne)).trans h2, by omega, by omega, ?_, fun k hk => h6 k (by omega)⟩, hF.trans (Fr.st h1 (by simp)), ht⟩
      have e2 := dg_mod N (n - 1)
      rw [show n - 1 + 1 = n from by omega, Nat.mod_eq_of_lt h5, c2, Nat.mul_zero, Nat.add_zero] at e2
      rw [e2]
      exact Nat.mod_lt _ (Nat.pow_pos (by omega))
    · rw [if_neg (by
        rw [il_eq2 (by omega) (by omega)]
        exact c2), wp_some, lpo_r]
      exact ⟨⟨f, n, hp0, Or.inr c2⟩, hF, ht⟩
theorem gtimes {τ : HP} {g d N c : Nat} (h : GR τ g d N) (hc : c ≤ 1000000) (hN : N * c < 10000 ^ 310) : wp (eX14_times τ g (nI c)) (fun t => GR t g d (N * c) ∧ Fr [g, d] τ t ∧ t.2 = τ.2) := by
  obtain ⟨f, sz, hP, -⟩ := h
  have hne := hP.ne
  obtain ⟨h1, h2, h3, h4, h5, h6⟩ := hP
  unfold eX14_times
  have key1 : wp (wt_whC (bX14_times_1 g (nI c)) ((0 : Int64), (0 : Int32), τ)) (fun r => ∃ f t, r = (lN (N * c / 10000 ^ sz), t) ∧ t.1 g = some (.inr (11, [.ref d, .int (nI sz)])) ∧ t.1 d = some (.inl (0, 310, .inl f)) ∧ (∀ j, j < sz → f j = nI (dg (N * c) j)) ∧ Fr [g, d] τ t ∧ t.2 = τ.2) := by
    refine wp_for sz 0 (fun k v => ∃ f t, v = (lN (N % 10000 ^ k * c / 10000 ^ k), nI k, t) ∧ t.1 g = some (.inr (11, [.ref d, .int (nI sz)])) ∧ t.1 d = some (.inl (0, 310, .inl f)) ∧ (∀ j, j < k → f j = nI (dg (N * c) j)) ∧ (∀ j, k ≤ j → j < sz → f j = nI (dg N j)) ∧ Fr [g, d] τ t ∧ t.2 = τ.2) (by omega) ⟨f, τ, by rw [Nat.pow_zero, Nat.mod_one, Nat.zero_mul]; rfl, h1, h2, fun j hj => by omega, fun j _ hj => h6 j hj, Fr.rfl, rfl⟩ ?_ ?_
    · rintro k v hk ⟨f, t, rfl, k1, k2, k3, k4, k5, k6⟩
      have hd := dg_lt N k
      have hn : lN (N % 10000 ^ k * c / 10000 ^ k) + Int32.toInt64 (nI (dg N k)) * Int32.toInt64 (nI c) = lN (N % 10000 ^ (k + 1) * c / 10000 ^ k) := by
        rw [nI_l (by omega), nI_l (by omega), lN_mul, lN_add, Nat.add_comm, tm_n]
      have hnb : N % 10000 ^ (k + 1) * c / 10000 ^ k < 2 ^ 63 := by
        rw [← tm_n]
        have a1 : dg N k * c ≤ 9999 * 1000000 := Nat.mul_le_mul (by omega) hc
        have a2 := tm_le N c k
        omega
      have hm : Int64.toInt32 (lN (N % 10000 ^ (k + 1) * c / 10000 ^ k) - lN (N % 10000 ^ (k + 1) * c / 10000 ^ k) / (10000 : Int64) * (10000 : Int64)) = nI (dg (N * c) k) := by
        rw [l10k, pk_lRem hnb (by omega) (by omega), lN_i, tm_d]
      have hq : lN (N % 10000 ^ (k + 1) * c / 10000 ^ k) / (10000 : Int64) = lN (N % 10000 ^ (k + 1) * c / 10000 ^ (k + 1)) := by
        rw [l10k, pk_lDiv hnb (by omega) (by omega), tm_c]
      unfold bX14_times_1
      dsimp only
      rw [hgI_of (cs := [11]) (k := 1) k1 rfl rfl, wt_bd_s, wp_ite, if_neg (by rw [nI_leI (by omega) (by omega)]; omega), hgA_of (cs := [11]) (k := 0) k1 rfl rfl, wt_bd_s, haI_of k2, wt_bd_s, wt_ck_t (by rw [vp_nI (by omega)]; show _ < 310; omega), nI_clamp (by omega), wp_lt, wt_bd_s, haI_of k2, wt_bd_s, wt_ck_t (by rw [vp_nI (by omega)]; show _ < 310; omega), wp_lt, wp_lt, wp_lt, wp_some, lpo_l]
      dsimp only
      rw [k4 k (Nat.le_refl _) hk, hn, hm, hq, nI_1]
      refine ⟨_, _, rfl, (hst_ne hne).trans k1, hst_eq, fun j hj => ?_, fun j hj hj2 => ?_, k5.trans (Fr.st k2 (by simp)), k6⟩
      · show (if j = k then _ else _) = _
        by_cases c : j = k
        · rw [if_pos c, c]
        · rw [if_neg c]; exact k3 j (by omega)
      · show (if j = k then _ else _) = _
        rw [if_neg (by omega)]; exact k4 j (by omega) hj2
    · rintro v ⟨f, t, rfl, k1, k2, k3, k4, k5, k6⟩
      unfold bX14_times_1
      dsimp only
      rw [hgI_of (cs := [11]) (k := 1) k1 rfl rfl, wt_bd_s, wp_ite, if_pos (by rw [nI_leI (by omega) (by omega)]; omega), wp_some, lpo_r]
      refine ⟨f, t, ?_, k1, k2, k3, k5, k6⟩
      rw [Nat.mod_eq_of_lt h5]
  refine wp_ap key1 fun r ⟨f1, t1, er, k1, k2, k3, k4, k5⟩ => ?_
  subst er
  have key2 : wp (wt_whC (bX14_times_2 g) (lN (N * c / 10000 ^ sz), t1)) (fun t => ∃ f sz, GP t g d f sz (N * c) ∧ Fr [g, d] τ t ∧ t.2 = τ.2) := by
    refine wp_loop (fun n v => ∃ s f t, n = N * c / 10000 ^ s ∧ v = (lN (N * c / 10000 ^ s), t) ∧ 1 ≤ s ∧ s ≤ 310 ∧ N * c / 10000 ^ s ≤ 1000000 ∧ t.1 g = some (.inr (11, [.ref d, .int (nI s)])) ∧ t.1 d = some (.inl (0, 310, .inl f)) ∧ (∀ j, j < s → f j = nI (dg (N * c) j)) ∧ Fr [g, d] τ t ∧ t.2 = τ.2) ?_ _ _ ⟨sz, f1, t1, rfl, rfl, h3, h4, ?_, k1, k2, k3, k4, k5⟩
    · rintro n v ⟨s, f, t, rfl, rfl, h3, h4, hb, k1, k2, k3, k4, k5⟩
      unfold bX14_times_2
      dsimp only
      rw [wp_ite]
      by_cases z : N * c / 10000 ^ s = 0
      · rw [if_pos (by rw [z, lg_cmp_le]; decide), wp_some, lpo_r]
        refine ⟨f, s, ⟨k1, k2, h3, h4, ?_, k3⟩, k4, k5⟩
        rcases Nat.lt_or_ge (N * c) (10000 ^ s) with q | q
        · exact q
        · have := Nat.div_pos q (Nat.pow_pos (by omega))
          omega
      · have hs : s < 310 := by
          rcases Nat.lt_or_ge s 310 with q | q
          · exact q
          · have : s = 310 := by omega
            subst this
            exact absurd (Nat.div_eq_of_lt hN) z
        have hm : Int64.toInt32 (lN (N * c / 10000 ^ s) - lN (N * c / 10000 ^ s) / (10000 : Int64) * (10000 : Int64)) = nI (dg (N * c) s) := by
          rw [l10k, pk_lRem (by omega) (by omega) (by omega), lN_i]; rfl
        have hq : lN (N * c / 10000 ^ s) / (10000 : Int64) = lN (N * c / 10000 ^ (s + 1)) := by
          rw [l10k, pk_lDiv (by omega) (by omega) (by omega), Nat.div_div_eq_div_mul, ← Nat.pow_succ]
        have hlt : N * c / 10000 ^ (s + 1) < N * c / 10000 ^ s := by
          rw [Nat.pow_succ, ← Nat.div_div_eq_div_mul]
          exact Nat.div_lt_self (Nat.pos_of_ne_zero z) (by omega)
        rw [if_neg (by
          rw [lg_cmp_le, show (0 : Int64) = lN 0 from rfl, pk_lLE (by omega) (by omega)]
          exact fun q => z (Nat.le_zero.mp q)), hgA_of (cs := [11]) (k := 0) k1 rfl rfl, wt_bd_s, hgI_of (cs := [11]) (k := 1) k1 rfl rfl, wt_bd_s, haI_of k2, wt_bd_s, wt_ck_t (by rw [vp_nI (by omega)]; exact hs), nI_clamp (by omega), wp_lt, hm]
        have j1 : (hst t d (.inl (0, 310, .inl (upd f s (nI (dg (N * c) s)))))).1 g = some (.inr (11, [.ref d, .int (nI s)])) := (hst_ne hne).trans k1
        dsimp only
        rw [hgI_of (cs := [11]) (k := 1) j1 rfl rfl, wt_bd_s, hp_of (cs := [11]) (k := 1) j1 rfl (by omega) (by simp), wt_bd_s, wp_lt, wp_some, lpo_l, hq, nI_1]
        refine ⟨_, hlt, s + 1, upd f s (nI (dg (N * c) s)), _, rfl, rfl, by omega, by omega, by omega, hst_eq, (hst_ne (Ne.symm hne)).trans hst_eq, fun j hj => ?_, (k4.trans (Fr.st k2 (by simp))).trans (Fr.st j1 (by simp)), k5⟩
        show (if j = s then _ else _) = _
        by_cases c : j = s
        · rw [if_pos c, c]
        · rw [if_neg c]; exact k3 j (by omega)
    · have h7 : N * c ≤ 10000 ^ sz * 1000000 := Nat.mul_le_mul (Nat.le_of_lt h5) hc
      refine Nat.le_trans (Nat.div_le_div_right h7) ?_
      rw [Nat.mul_comm, Nat.mul_div_cancel _ (Nat.pow_pos (by omega))]
      exact Nat.le_refl _
  refine wp_ap key2 fun t ⟨f2, s2, k6, k7, k8⟩ => ?_
  rw [wt_ck_t (hcl_of k6.1)]
  refine wp_ap (gtrim k6) fun u ⟨u1, u2, u3⟩ => ?_
  rw [wp_some]
  exact ⟨u1, k7.trans u2, u3.trans k8⟩
theorem gby {τ : HP} {g d N c : Nat} (h : GR τ g d N) (h0 : 0 < c) (hc : c ≤ 60) : wp (eX14_by τ g (nI c)) (fun t => GR t g d (N / c) ∧ Fr [g, d] τ t ∧ t.2 = τ.2) := by
  obtain ⟨f, sz, hP, -⟩ := h
  have hne := hP.ne
  obtain ⟨h1, h2, h3, h4, h5, h6⟩ := hP
  unfold eX14_by
  rw [hgI_of (cs := [11]) (k := 1) h1 rfl rfl, wt_bd_s, wp_lt]
  have ec : Int32.toInt64 (nI c) = lN c := nI_l (by omega)
  have ec0 : ¬ lN c = 0 := by
    rw [show (0 : Int64) = lN 0 from rfl, pk_lEQ (by omega) (by omega)]
    omega
  have e1 : nI sz - 1 = nI sz + (-1) := Int32.sub_eq_add_neg _ _
  have key : wp (wt_whC (bX14_by_1 g (nI c)) ((0 : Int64), nI sz - 1, τ)) (fun t => ∃ f, GP t g d f sz (N / c) ∧ Fr [g, d] τ t ∧ t.2 = τ.2) := by
    refine wp_loop (fun m v => m ≤ sz ∧ ∃ f t, v = (lN (N / 10000 ^ m % c), nI m + (-1), t) ∧ t.1 g = some (.inr (11, [.ref d, .int (nI sz)])) ∧ t.1 d = some (.inl (0, 310, .inl f)) ∧ (∀ j, j < m → f j = nI (dg N j)) ∧ (∀ j, m ≤ j → j < sz → f j = nI (dg (N / c) j)) ∧ Fr [g, d] τ t ∧ t.2 = τ.2) ?_ sz _ ⟨Nat.le_refl _, f, τ, by rw [Nat.div_eq_of_lt h5, Nat.zero_mod, e1]; rfl, h1, h2, h6, fun j _ _ => by omega, Fr.rfl, rfl⟩
    rintro m v ⟨hm, f, t, rfl, k1, k2, k3, k4, k5, k6⟩
    unfold bX14_by_1
    dsimp only
    cases m with
    | zero =>
      have hz : nI 0 + (-1) < 0 := by decide
      rw [wp_ite, if_pos hz, wp_some, lpo_r]
      exact ⟨f, ⟨k1, k2, h3, h4, Nat.lt_of_le_of_lt (Nat.div_le_self _ _) h5, fun k hk => k4 k (Nat.zero_le _) hk⟩, k5, k6⟩
    | succ k =>
      have hd := dg_lt N k
      have hv := Nat.mod_lt (N / 10000 ^ (k + 1)) h0
      have hn : lN (N / 10000 ^ (k + 1) % c) * (10000 : Int64) + Int32.toInt64 (nI (dg N k)) = lN (N / 10000 ^ (k + 1) % c * 10000 + dg N k) := by
        rw [l10k, nI_l (by omega), lN_mul, lN_add]
      have hq : lN (N / 10000 ^ (k + 1) % c * 10000 + dg N k) / lN c = lN (dg (N / c) k) := by
        rw [pk_lDiv (by omega) h0 (by omega), dv_d N h0]
      have hr : lN (N / 10000 ^ (k + 1) % c * 10000 + dg N k) - lN (dg (N / c) k) * lN c = lN (N / 10000 ^ k % c) := by
        rw [← hq, pk_lRem (by omega) h0 (by omega), dv_n]
      rw [pk_m1, wp_ite, if_neg (nI_pos (by omega)), hgA_of (cs := [11]) (k := 0) k1 rfl rfl, wt_bd_s, haI_of k2, wt_bd_s, wt_ck_t (by rw [vp_nI (by omega)]; show _ < 310; omega), nI_clamp (by omega), wp_lt, wt_bd_s, ec, wt_ck_t ec0, haI_of k2, wt_bd_s, wt_ck_t (by rw [vp_nI (by omega)]; show _ < 310; omega), wp_lt, wt_ck_t ec0, wp_lt, wp_lt, wp_some, lpo_l]
      dsimp only
      rw [k3 k (by omega), hn, hq, lN_i, hr]
      refine ⟨k, by omega, by omega, _, _, rfl, (hst_ne hne).trans k1, hst_eq, fun j hj => ?_, fun j hj hj2 => ?_, k5.trans (Fr.st k2 (by simp)), k6⟩
      · show (if j = k then _ else _) = _
        rw [if_neg (by omega)]; exact k3 j (by omega)
      · show (if j = k then _ else _) = _
        by_cases c : j = k
        · rw [if_pos c, c]
        · rw [if_neg c]; exact k4 j (by omega) hj2
  refine wp_ap key fun t ⟨f2, k6, k7, k8⟩ => ?_
  rw [wt_ck_t (hcl_of k6.1)]
  refine wp_ap (gtrim k6) fun u ⟨u1, u2, u3⟩ => ?_
  rw [wp_some]
  exact ⟨u1, k7.trans u2, u3.trans k8⟩
theorem ginit {τ : HP} {g n : Nat} (hf : Wf τ) (hn : n ≤ 1) (h : τ.1 g = some (.inr (11, [.null, .int 0]))) : wp (eX14_init τ g (nI n)) (fun t => ∃ d, τ.2 ≤ d ∧ GR t g d n ∧ Fr [g] τ t ∧ t.2 = τ.2 + 1) := by
  have hs := hf g _ h
  unfold eX14_init
  rw [wp_lt]
  have a1 : (hnew τ (.inl (0, 310, .inl (fun _ => 0)))).1 g = some (.inr (11, [.null, .int 0])) := (hnew_ne (by omega)).trans h
  have a2 : (hnew τ (.inl (0, 310, .inl (fun _ => 0)))).1 τ.2 = some (.inl (0, 310, .inl (fun _ => 0))) := hnew_eq
  have aF : Fr [g] τ (hnew τ (.inl (0, 310, .inl (fun _ => 0)))) := Fr.new
  have a3 : (hnew τ (.inl (0, 310, .inl (fun _ => 0)))).2 = τ.2 + 1 := rfl
  generalize hnew τ (.inl (0, 310, .inl (fun _ => 0))) = t1 at a1 a2 aF a3
  rw [hp_of (cs := [11]) (k := 0) a1 rfl (by omega) (by simp), wt_bd_s, hp_of (cs := [11]) (k := 1) hst_eq rfl (by omega) (by simp), wt_bd_s, hst_hst]
  have b1 : (hst t1 g (.inr (11, ([Value.null, .int 0].set 0 (.ref τ.2)).set 1 (.int 1)))).1 g = some (.inr (11, [.ref τ.2, .int 1])) := hst_eq
  have b2 : (hst t1 g (.inr (11, ([Value.null, .int 0].set 0 (.ref τ.2)).set 1 (.int 1)))).1 τ.2 = some (.inl (0, 310, .inl (fun _ => 0))) := (hst_ne (by omega)).trans a2
  have bF : Fr [g] τ (hst t1 g (.inr (11, ([Value.null, .int 0].set 0 (.ref τ.2)).set 1 (.int 1)))) := aF.trans (Fr.st a1 (by simp))
  have b3 : (hst t1 g (.inr (11, ([Value.null, .int 0].set 0 (.ref τ.2)).set 1 (.int 1)))).2 = τ.2 + 1 := a3
  generalize hst t1 g (.inr (11, ([Value.null, .int 0].set 0 (.ref τ.2)).set 1 (.int 1))) = t2 at b1 b2 bF b3
  have v0 : vp_in (0 : Int32) 310 := by rw [vp_in_iff]; decide
  have v1 : vp_in (1 : Int32) 310 := by rw [vp_in_iff]; decide
  have v2 : vp_in (2 : Int32) 310 := by rw [vp_in_iff]; decide
  have c0 : (0 : Int32).toNatClampNeg = 0 := by decide
  have c1 : (1 : Int32).toNatClampNeg = 1 := by decide
  have c2 : (2 : Int32).toNatClampNeg = 2 := by decide
  have q1 : nI n / 10000 = nI 0 := by
    rw [il_div (by omega) (by omega) (by omega), Nat.div_eq_of_lt (by omega)]
  have q2 : nI 0 / 10000 = nI 0 := by decide
  have q3 : nI 0 * 10000 = nI 0 := by decide
  have q4 : nI n - nI 0 = nI n := by rw [nI_0, Int32.sub_zero]
  have q5 : nI 0 - nI 0 = nI 0 := by decide
  rw [hgA_of (cs := [11]) (k := 0) b1 rfl rfl, wt_bd_s, haI_of b2, wt_bd_s, wt_ck_t v0, c0, wp_lt, q1, q3, q4]
  have d1 : (hst t2 τ.2 (.inl (0, 310, .inl (upd (fun _ => 0) 0 (nI n))))).1 g = some (.inr (11, [.ref τ.2, .int 1])) := (hst_ne (by omega)).trans b1
  dsimp only
  rw [hgA_of (cs := [11]) (k := 0) d1 rfl rfl, wt_bd_s, haI_of hst_eq, wt_bd_s, wt_ck_t v1, c1, wp_lt, q2, q3, q5, hst_hst]
  have e1 : (hst t2 τ.2 (.inl (0, 310, .inl (upd (upd (fun _ => 0) 0 (nI n)) 1 (nI 0))))).1 g = some (.inr (11, [.ref τ.2, .int 1])) := (hst_ne (by omega)).trans b1
  dsimp only
  rw [hgA_of (cs := [11]) (k := 0) e1 rfl rfl, wt_bd_s, haI_of hst_eq, wt_bd_s, wt_ck_t v2, c2, wp_lt, hst_hst]
  have f1 : (hst t2 τ.2 (.inl (0, 310, .inl (upd (upd (upd (fun _ => 0) 0 (nI n)) 1 (nI 0)) 2 (nI 0))))).1 g = some (.inr (11, [.ref τ.2, .int 1])) := (hst_ne (by omega)).trans b1
  dsimp only
  rw [hp_of (cs := [11]) (k := 1) f1 rfl (by omega) (by simp), wt_bd_s, wt_ck_t (hcl_of hst_eq)]
  have g1 : GP (hst (hst t2 τ.2 (.inl (0, 310, .inl (upd (upd (upd (fun _ => 0) 0 (nI n)) 1 (nI 0)) 2 (nI 0))))) g (.inr (11, [Value.ref τ.2, .int 1].set 1 (.int 3)))) g τ.2 (upd (upd (upd (fun _ => 0) 0 (nI n)) 1 (nI 0)) 2 (nI 0)) 3 n := by
    refine ⟨hst_eq, (hst_ne (by omega)).trans hst_eq, by omega, by omega, Nat.lt_of_le_of_lt hn (by decide), fun k hk => ?_⟩
    have e3 : dg n k = if k = 0 then n else 0 := by
      by_cases z : k = 0
      · subst z
        rw [if_pos rfl]
        unfold dg
        rw [Nat.pow_zero, Nat.div_one, Nat.mod_eq_of_lt (by omega)]
      · rw [if_neg z]
        exact dg_top (n := 1) (Nat.lt_of_le_of_lt hn (by decide)) (by omega)
    rw [e3]
    unfold upd
    by_cases z : k = 0
    · subst z; rfl
    · rw [if_neg z]
      by_cases z1 : k = 1
      · subst z1; rfl
      · by_cases z2 : k = 2
        · subst z2; rfl
        · omega
  have gF : Fr [g, τ.2] t2 (hst (hst t2 τ.2 (.inl (0, 310, .inl (upd (upd (upd (fun _ => 0) 0 (nI n)) 1 (nI 0)) 2 (nI 0))))) g (.inr (11, [Value.ref τ.2, .int 1].set 1 (.int 3)))) := (Fr.st b2 (by simp)).trans (Fr.st f1 (by simp))
  refine wp_ap (gtrim g1) fun u ⟨u1, u2, u3⟩ => ?_
  rw [wp_some]
  refine ⟨τ.2, Nat.le_refl _, u1, bF.then (gF.trans u2) (fun q hq => ?_), u3.trans b3⟩
  have : q = g ∨ q = τ.2 := by simpa using hq
  rcases this with z | z
  · left; rw [z]; simp
  · right; omega
theorem gtp {N sz : Nat} (h1 : 1 ≤ sz) (h2 : sz ≤ 310) (h3 : N < 10000 ^ sz) (h4 : sz = 1 ∨ dg N (sz - 1) ≠ 0) : tp N 330 = sz - 1 := by
  refine tp_eq (by omega) ?_ fun j hj _ => dg_top h3 (by omega)
  rcases h4 with h | h
  · left; omega
  · right; exact h
theorem gdigits {τ : HP} {g d N : Nat} (h : GR τ g d N) : eX14_digits τ g = some (nI (nd N)) := by
  obtain ⟨f, sz, ⟨h1, h2, h3, h4, h5, h6⟩, h7⟩ := h
  have et := gtp h3 h4 h5 h7
  have hd := dg_lt N (sz - 1)
  have e : nI sz - 1 = nI (sz - 1) := pk_sub (by omega)
  unfold eX14_digits
  rw [hgA_of (cs := [11]) (k := 0) h1 rfl rfl, wt_bd_s, hgI_of (cs := [11]) (k := 1) h1 rfl rfl, wt_bd_s, haI_of h2, wt_bd_s, e, wt_ck_t (by rw [vp_nI (by omega)]; show _ < 310; omega), nI_clamp (by omega), wp_lt_id, wt_bd_s, e]
  rw [show ((310, f) : Nat × (Nat → Int32)).2 (sz - 1) = nI (dg N (sz - 1)) from h6 (sz - 1) (by omega), il_mul]
  unfold nd dcnt
  rw [et]
  by_cases c1 : dg N (sz - 1) ≤ 999
  · rw [if_pos (by rw [il_le2 (by omega) (by omega)]; exact c1), if_neg (show ¬ 999 < _ by omega)]
    by_cases c2 : dg N (sz - 1) ≤ 99
    · rw [if_pos (by rw [il_le2 (by omega) (by omega)]; exact c2), if_neg (show ¬ 99 < _ by omega)]
      by_cases c3 : dg N (sz - 1) ≤ 9
      · rw [if_pos (by rw [il_le2 (by omega) (by omega)]; exact c3), if_neg (show ¬ 9 < _ by omega), il_add]
      · rw [if_neg (by rw [il_le2 (by omega) (by omega)]; exact c3), if_pos (show 9 < _ by omega), il_add]
    · rw [if_neg (by rw [il_le2 (by omega) (by omega)]; exact c2), if_pos (show 99 < _ by omega), il_add]
  · rw [if_neg (by rw [il_le2 (by omega) (by omega)]; exact c1), if_pos (show 999 < _ by omega), il_add]
/-- a digit within a place -/
theorem dig_loop {F : Int32 × Int32 → Option ((Int32 × Int32) ⊕ Int32)} {v k : Nat} (hv : v < 10000) (hk : k < 4) (hF : F = fun w => if nI k ≤ w.2 then (some (.inr w.1)) else (wt_lt ((w.1 / (10 : Int32))) fun n18 => wt_lt (w.2 + (1 : Int32)) fun n19 => some (.inl (n18, n19)))) : wt_whC F (nI v, (0 : Int32)) = some (nI (v / 10 ^ k)) := by
  apply wp_eq
  refine wp_for k 0 (fun i w => w = (nI (v / 10 ^ i), nI i)) (by omega) (by rw [Nat.pow_zero, Nat.div_one]; rfl) ?_ ?_
  · rintro i w hi rfl
    rw [hF]
    dsimp only
    have hle : v / 10 ^ i ≤ v := Nat.div_le_self _ _
    rw [wp_ite, if_neg (by rw [nI_leI (by omega) (by omega)]; omega), wp_lt, wp_lt, wp_some, lpo_l, nI_1, il_div (by omega) (by omega) (by omega), Nat.div_div_eq_div_mul, ← Nat.pow_succ]
  · rintro w rfl
    rw [hF]
    dsimp only
    rw [wp_ite, if_pos (by rw [nI_leI (by omega) (by omega)]; exact Nat.le_refl _), wp_some, lpo_r]
theorem gdigit {τ : HP} {g d N k : Nat} (h : GR τ g d N) (hk : k < nd N) : eX14_digit τ g (nI k) = some (nI (dig N k)) := by
  have hnd := nd_le N
  obtain ⟨f, sz, ⟨h1, h2, h3, h4, h5, h6⟩, h7⟩ := h
  have et := gtp h3 h4 h5 h7
  have hk4 : k / 4 < sz := by
    unfold nd dcnt at hk
    rw [et] at hk
    have : k < 4 * (sz - 1) + 4 := by
      revert hk
      (repeat' split) <;> intro hk <;> omega
    omega
  have hd := dg_lt N (k / 4)
  have e4 : nI k - nI k / (4 : Int32) * (4 : Int32) = nI (k % 4) := pk_rem (d := 4) (by omega) (by omega) (by omega)
  unfold eX14_digit
  rw [hgA_of (cs := [11]) (k := 0) h1 rfl rfl, wt_bd_s, haI_of h2, wt_bd_s, il_div (by omega) (by omega) (by omega), wt_ck_t (by rw [vp_nI (by omega)]; show _ < 310; omega), nI_clamp (by omega), wp_lt_id]
  dsimp only
  rw [h6 (k / 4) hk4, dig_loop (v := dg N (k / 4)) (k := k % 4) (by omega) (by omega) (by unfold bX14_digit_1; rw [e4]), wt_bd_s]
  have hle : dg N (k / 4) / 10 ^ (k % 4) ≤ dg N (k / 4) := Nat.div_le_self _ _
  show some (nI _ - nI _ / nI 10 * nI 10) = _
  rw [pk_rem (by omega) (by omega) (by omega)]
  rfl
theorem top_le {M n : Nat} (h : dg M n ≠ 0) : 10000 ^ n ≤ M := by
  rcases Nat.lt_or_ge M (10000 ^ n) with c | c
  · exact absurd (dg_top c (Nat.le_refl _)) h
  · exact c
theorem gcompare {τ : HP} {g d h e N M : Nat} (hN : GR τ g d N) (hM : GR τ h e M) : eX14_compareTo τ g h = some (cmpI N M) := by
  obtain ⟨f, sz, ⟨h1, h2, h3, h4, h5, h6⟩, h7⟩ := hN
  obtain ⟨f', sz', ⟨k1, k2, k3, k4, k5, k6⟩, k7⟩ := hM
  unfold eX14_compareTo
  rw [hgI_of (cs := [11]) (k := 1) h1 rfl rfl, wt_bd_s, hgI_of (cs := [11]) (k := 1) k1 rfl rfl, wt_bd_s]
  by_cases c : sz = sz'
  · subst c
    rw [if_pos rfl, wt_bd_s, wp_lt_id]
    have e1 : nI sz - 1 = nI sz + (-1) := Int32.sub_eq_add_neg _ _
    apply wp_eq
    rw [e1, wp_bd]
    refine wp_loop (fun m v => m ≤ sz ∧ v = nI m + (-1) ∧ ∀ j, m ≤ j → j < sz → dg N j = dg M j) ?_ sz _ ⟨Nat.le_refl _, rfl, fun j _ _ => by omega⟩
    rintro m v ⟨hm, rfl, hq⟩
    unfold bX14_compareTo_1
    cases m with
    | zero =>
      have hz : nI 0 + (-1) < 0 := by decide
      have e : N = M := dg_eq h5 k5 fun k hk => hq k (Nat.zero_le _) hk
      rw [wp_ite, if_pos hz, wp_some, lpo_r, rs_l, wp_some]
      unfold cmpI
      rw [if_neg (by omega), if_neg (by omega)]
    | succ k =>
      have a1 := dg_lt N k
      have a2 := dg_lt M k
      rw [pk_m1, wp_ite, if_neg (nI_pos (by omega)), hgA_of (cs := [11]) (k := 0) h1 rfl rfl, wt_bd_s, haI_of h2, wt_bd_s, wt_ck_t (by rw [vp_nI (by omega)]; show _ < 310; omega), hgA_of (cs := [11]) (k := 0) k1 rfl rfl, wt_bd_s, haI_of k2, wt_bd_s, wt_ck_t (by rw [vp_nI (by omega)]; show _ < 310; omega), nI_clamp (by omega), wp_ite]
      rw [show ((310, f) : Nat × (Nat → Int32)).2 k = nI (dg N k) from h6 k (by omega), show ((310, f') : Nat × (Nat → Int32)).2 k = nI (dg M k) from k6 k (by omega)]
      by_cases c : dg N k = dg M k
      · rw [if_pos (by rw [c]), wp_lt, wp_some, lpo_l]
        refine ⟨k, by omega, by omega, rfl, fun j hj hj2 => ?_⟩
        by_cases c2 : j = k
        · rw [c2]; exact c
        · exact hq j (by omega) hj2
      · have hup : ∀ j, k < j → j < sz → dg N j = dg M j := fun j hj hj2 => hq j (by omega) hj2
        rw [if_neg (fun z => c ((nI_eq (by omega) (by omega)).mp z)), wt_bd_s, haI_of h2, wt_bd_s, wt_ck_t (by rw [vp_nI (by omega)]; show _ < 310; omega), wt_bd_s, haI_of k2, wt_bd_s, wt_ck_t (by rw [vp_nI (by omega)]; show _ < 310; omega), wp_ite, show ((310, f) : Nat × (Nat → Int32)).2 k = nI (dg N k) from h6 k (by omega), show ((310, f') : Nat × (Nat → Int32)).2 k = nI (dg M k) from k6 k (by omega)]
        unfold cmpI
        by_cases c2 : dg N k ≤ dg M k
        · rw [if_pos (by rw [nI_leI (by omega) (by omega)]; exact c2), wp_some, lpo_r, rs_r, wp_some, if_pos (dg_cmp h5 k5 hup (by omega) (by omega))]
        · have hlt := dg_cmp k5 h5 (fun j a b => (hup j a b).symm) (by omega) (by omega : dg M k < dg N k)
          rw [if_neg (by rw [nI_leI (by omega) (by omega)]; exact c2), wp_some, lpo_r, rs_r, wp_some, if_neg (by omega), if_pos hlt]
  · rw [if_neg (fun z => c ((nI_eq (by omega) (by omega)).mp z)), wt_bd_s, wt_bd_s]
    unfold cmpI
    by_cases c2 : sz ≤ sz'
    · have hlt : N < M := by
        have h8 : dg M (sz' - 1) ≠ 0 := by
          rcases k7 with z | z
          · omega
          · exact z
        exact Nat.lt_of_lt_of_le h5 (Nat.le_trans (Nat.pow_le_pow_right (by omega) (by omega)) (top_le h8))
      rw [if_pos (by rw [nI_leI (by omega) (by omega)]; exact c2), if_pos hlt]
    · have hlt : M < N := by
        have h8 : dg N (sz - 1) ≠ 0 := by
          rcases h7 with z | z
          · omega
          · exact z
        exact Nat.lt_of_lt_of_le k5 (Nat.le_trans (Nat.pow_le_pow_right (by omega) (by omega)) (top_le h8))
      rw [if_neg (by rw [nI_leI (by omega) (by omega)]; exact c2), if_neg (by omega), if_pos hlt]
theorem gzero {τ : HP} {g d N : Nat} (h : GR τ g d N) : eX14_isZero τ g = some (if N = 0 then 1 else 0) := by
  obtain ⟨f, sz, ⟨h1, h2, h3, h4, h5, h6⟩, h7⟩ := h
  have v0 : vp_in (0 : Int32) 310 := by rw [vp_in_iff]; decide
  have c0 : (0 : Int32).toNatClampNeg = 0 := by decide
  unfold eX14_isZero
  rw [hgI_of (cs := [11]) (k := 1) h1 rfl rfl, wt_bd_s]
  by_cases c : sz = 1
  · subst c
    have hd := dg_lt N 0
    have e0 : dg N 0 = N := by
      unfold dg
      rw [Nat.pow_zero, Nat.div_one]
      exact Nat.mod_eq_of_lt (by rw [Nat.pow_one] at h5; exact h5)
    rw [if_pos (by decide), hgA_of (cs := [11]) (k := 0) h1 rfl rfl, wt_bd_s, haI_of h2, wt_bd_s, wt_ck_t v0, c0]
    show (if f 0 = 0 then some (1 : Int32) else some 0) = _
    rw [h6 0 (by omega), e0]
    by_cases z : N = 0
    · rw [if_pos z, if_pos (by rw [z]; rfl)]
    · rw [if_neg z, if_neg (nI_ne0 (by omega) (by omega))]
  · rw [if_neg (by rw [il_eq2 (by omega) (by omega)]; exact c)]
    have : N ≠ 0 := by
      intro z
      rcases h7 with q | q
      · exact c q
      · rw [z, dg_0] at q; exact q rfl
    rw [if_neg this]
theorem gbecome {τ : HP} {g d h e N M : Nat} (hN : GR τ g d N) (hM : GR τ h e M) (hgh : g ≠ h) (hde : d ≠ e) : wp (eX14_become τ g h) (fun t => GR t g d M ∧ Fr [g, d] τ t ∧ t.2 = τ.2) := by
  obtain ⟨f, sz, hP, -⟩ := hN
  have hgd := hP.ne
  obtain ⟨h1, h2, h3, h4, h5, h6⟩ := hP
  obtain ⟨f', sz', hP', k7⟩ := hM
  obtain ⟨k1, k2, k3, k4, k5, k6⟩ := hP'
  have hhd : h ≠ d := by
    intro z
    rw [z, h2] at k1
    cases k1
  have z0 : (0 : Int32).toNatClampNeg = 0 := by decide
  have zn : ¬ (0 : Int32) < 0 := by decide
  unfold eX14_become
  rw [hgA_of (cs := [11]) (k := 0) k1 rfl rfl, wt_bd_s, hgA_of (cs := [11]) (k := 0) h1 rfl rfl, wt_bd_s, hgI_of (cs := [11]) (k := 1) k1 rfl rfl, wt_bd_s, haI_of k2, wt_bd_s, haI_of h2, wt_bd_s, z0, nI_clamp (by omega), wt_ck_t ⟨zn, zn, nI_pos (by omega), by show _ ≤ 310; omega, by show _ ≤ 310; omega⟩, wp_lt]
  dsimp only
  have j1 : (hst τ d (.inl (0, 310, .inl (va_cpy f' f 0 0 sz')))).1 h = some (.inr (11, [.ref e, .int (nI sz')])) := (hst_ne hhd).trans k1
  have j2 : (hst τ d (.inl (0, 310, .inl (va_cpy f' f 0 0 sz')))).1 g = some (.inr (11, [.ref d, .int (nI sz)])) := (hst_ne hgd).trans h1
  rw [hgI_of (cs := [11]) (k := 1) j1 rfl rfl, wt_bd_s, hp_of (cs := [11]) (k := 1) j2 rfl (by omega) (by simp), wt_bd_s, wp_some]
  refine ⟨⟨va_cpy f' f 0 0 sz', sz', ⟨hst_eq, (hst_ne (Ne.symm hgd)).trans hst_eq, k3, k4, k5, fun k hk => ?_⟩, k7⟩, (Fr.st h2 (by simp)).trans (Fr.st j2 (by simp)), rfl⟩
  unfold va_cpy
  rw [if_pos ⟨by omega, by omega⟩, show 0 + (k - 0) = k from by omega]
  exact k6 k hk
/-! THE PLAIN LAW, 11: the component's number of a story, its scale, its worth -/
set_option maxRecDepth 100000
theorem bd_a3 {N a c : Nat} (hN : N ≤ 16 ^ 420) (ha : a ≤ 16 ^ 15) (hc : c ≤ 16 ^ 2) : N * a * c < 10000 ^ 310 := by
  refine Nat.lt_of_le_of_lt (Nat.mul_le_mul (Nat.mul_le_mul hN ha) hc) ?_
  rw [← Nat.pow_add, ← Nat.pow_add]
  exact Nat.lt_of_le_of_lt (p16 (by omega)) big_310
theorem bd_b3 {N a b c : Nat} (hN : N ≤ 16 ^ 420) (ha : a ≤ 16 ^ 15) (hb : b ≤ 16 ^ 60) (hc : c ≤ 16 ^ 2) : N * a * b * c < 10000 ^ 310 := by
  refine Nat.lt_of_le_of_lt (Nat.mul_le_mul (Nat.mul_le_mul (Nat.mul_le_mul hN ha) hb) hc) ?_
  rw [← Nat.pow_add, ← Nat.pow_add, ← Nat.pow_add]
  exact Nat.lt_of_le_of_lt (p16 (by omega)) big_310
/-- the finds of the state that the outer object o holds -/
def FnR (t : HP) (o st fl : Nat) (es : List Nat) (fd : Nat → Nat → Int32) : Prop := hgA t o [0] 1 = some st ∧ hgA t st [2] 0 = some fl ∧ (∃ d, LA t fl d es) ∧ ∀ f, f < es.length → ∃ a, es[f]? = some a ∧ FdR t a (fd f)
def FnC (τ0 : HP) (o nf : Nat) (fd : Nat → Nat → Int32) : Prop := (∃ st fl es, (∀ t, Fr [] τ0 t → FnR t o st fl es fd) ∧ es.length = nf) ∧ nf ≤ 8 ∧ ∀ f, f < nf → FdOk (fd f)
theorem FnC.of {τ0 t : HP} {o nf : Nat} {fd : Nat → Nat → Int32} (h : FnC τ0 o nf fd) (hF : Fr [] τ0 t) : FnC t o nf fd := by
  obtain ⟨⟨st, fl, es, h1, h2⟩, h3⟩ := h
  exact ⟨⟨st, fl, es, fun u hu => h1 u (hF.trans hu), h2⟩, h3⟩
section CN
variable {τ0 τ : HP} {B r sl o lw m : Nat} {w : LW} {cm al : Nat → Int32} {cl : Int32} {tk : Nat} {ev : Nat → Nat → Int32} {lo fi se th : Int32} {mo : Option (Nat × Nat × Nat)} {nf : Nat} {fd : Nat → Nat → Int32}
theorem RnC.use (hC : RnC τ0 B r sl o lw m w cm al (nI tk) cl ev lo fi se th mo) {t : HP} (hF : Fr [] τ0 t) : hcl t r = some 8 ∧ hgA t r [8] 6 = some o ∧ hgA t o [0] 0 = some lw ∧ hgI t lw [1] 6 = some (nI tk) := by
  obtain ⟨mv, hK, -⟩ := hC
  obtain ⟨hL, -, hr, -, fs, h1, h2⟩ := hK t hF
  obtain ⟨sh, ho, co, aa, fs', fh, fc, fa, -, l1, -⟩ := hL
  exact ⟨hcl_of hr, hgA_of (cs := [8]) (k := 6) hr rfl rfl, hgA_of (cs := [0]) (k := 0) h1 rfl h2, hgI_of (cs := [1]) (k := 6) l1 rfl rfl⟩
theorem fr2 {t u : HP} {g d : Nat} (hF : Fr [] τ0 t) (h : Fr [g, d] t u) (hg : τ0.2 ≤ g) (hd : τ0.2 ≤ d) : Fr [] τ0 u := hF.then h fun q hq => Or.inr (by
  have : q = g ∨ q = d := by simpa using hq
  omega)
/-- a find counted in -/
theorem crtimes {g d a N k : Nat} {q : Nat → Int32} (hf : Wf τ0) (hC : RnC τ0 B r sl o lw m w cm al (nI tk) cl ev lo fi se th mo) (htk : tk ≤ 16) (hF : Fr [] τ0 τ) (hg : τ0.2 ≤ g) (hd : τ0.2 ≤ d) (hG : GR τ g d N) (ha : ∀ t, Fr [] τ0 t → FdR t a q) (hq : FdOk q) (hk : q 3 = nI k) (hk60 : k ≤ 60) (hN : N ≤ 16 ^ 420) :
    wp (eX11_times τ r g a) (fun t => GR t g d (N * fct (fPile cm al (nRun w m ev (kpF lo fi se th ev) mo) q) k tk) ∧ Fr [] τ0 t ∧ t.2 = τ.2 + 3) := by
  have hcm : ∀ k, k < 10 → In (cm k) 20 := by obtain ⟨mv, hK, hB, hm, hev, hw, hcm⟩ := hC; exact hcm
  have hn60 := (fPile_le (al := al) hq hcm (hC.of hF).B).1
  unfold eX11_times
  rw [wt_ck_t (hC.use hF).1]
  refine wp_ap (crpile (hF.1 hf) (hC.of hF) (ha τ hF) hq) fun out ⟨e1, hF1, e2⟩ => ?_
  obtain ⟨pn, s0⟩ := out
  dsimp only at e1 hF1 e2 ⊢
  subst e1
  generalize fPile cm al (nRun w m ev (kpF lo fi se th ev) mo) q = n at hn60
  have hG1 : GR s0 g d N := hG.keep hF1 (hF.1 hf) (by simp) (by simp)
  have hF2 : Fr [] τ0 s0 := hF.trans hF1
  have fk : ∀ t, Fr [] τ0 t → hgI t a [10] 3 = some (nI k) := fun t ht => by
    rw [hgI_of (cs := [10]) (k := 3) (ha t ht) rfl rfl, hk]
  rw [fk s0 hF2, wt_bd_s, wp_ite]
  by_cases c : k ≤ n
  · rw [if_pos (by rw [nI_leI (by omega) (by omega)]; exact c)]
    have key1 : wp (wt_whC (bX11_times_1 g a (nI n, s0)) ((1 : Int32), s0)) (fun t => GR t g d (N * ch n k) ∧ Fr [] τ0 t ∧ t.2 = s0.2) := by
      refine wp_for k 0 (fun i v => ∃ t, v = (nI (i + 1), t) ∧ GR t g d (N * ch (n - k + i) i) ∧ Fr [] τ0 t ∧ t.2 = s0.2) (by omega) ⟨s0, rfl, by rw [ch_0, Nat.mul_one]; exact hG1, hF2, rfl⟩ ?_ ?_
      · rintro i v hi ⟨t, rfl, hGt, hFt, ht⟩
        unfold bX11_times_1
        dsimp only
        have hN3 : N * ch (n - k + i) i * (n - k + (i + 1)) < 10000 ^ 310 := bd_a3 hN (ch_15 (by omega)) (p256 (by omega))
        rw [fk t hFt, wt_bd_s, wp_ite, if_neg (by rw [nI_ltI (by omega) (by omega)]; omega), wt_bd_s, wt_ck_t hGt.cl, pk_sub c, nI_add]
        refine wp_ap (gtimes hGt (by omega) hN3) fun u ⟨u1, u2, u3⟩ => ?_
        rw [wt_ck_t u1.cl]
        refine wp_ap (gby u1 (by omega) (by omega)) fun u' ⟨u4, u5, u6⟩ => ?_
        rw [wp_lt, wp_some, lpo_l, nI_1]
        have e : N * ch (n - k + i) i * (n - k + (i + 1)) / (i + 1) = N * ch (n - k + (i + 1)) (i + 1) := by
          have h1 := ch_up (n - k + i) i
          rw [show n - k + (i + 1) = n - k + i + 1 from by omega, Nat.mul_assoc, Nat.mul_comm (ch (n - k + i) i), ← h1, ← Nat.mul_assoc, Nat.mul_div_cancel _ (by omega)]
        rw [e] at u4
        exact ⟨u', rfl, u4, fr2 (fr2 hFt u2 hg hd) u5 hg hd, u6.trans (u3.trans ht)⟩
      · rintro v ⟨t, rfl, hGt, hFt, ht⟩
        unfold bX11_times_1
        dsimp only
        rw [fk t hFt, wt_bd_s, wp_ite, if_pos (by rw [nI_ltI (by omega) (by omega)]; omega), wp_some, lpo_r]
        rw [show n - k + k = n from by omega] at hGt
        exact ⟨hGt, hFt, ht⟩
    refine wp_ap key1 fun s1 ⟨g1, f1, z1⟩ => ?_
    have step : ∀ (i : Nat) (t : HP) (c' : Nat), i < n → c' ≤ 16 → GR t g d (N * ch n k * pre n k tk i) → Fr [] τ0 t → t.2 = s0.2 → c' = (if k ≤ i then 16 - tk else tk) → wp (eX14_times t g (nI c')) (fun u => GR u g d (N * ch n k * pre n k tk (i + 1)) ∧ Fr [] τ0 u ∧ u.2 = s0.2) := by
      intro i t c' hi hc' hGt hFt ht ec
      have hN3 : N * ch n k * pre n k tk i * c' < 10000 ^ 310 := bd_b3 hN (ch_15 hn60) (Nat.le_trans (pre_le htk) (p16 (by omega))) (p256 (by omega))
      refine wp_mono (gtimes hGt (by omega) hN3) fun u ⟨u1, u2, u3⟩ => ?_
      refine ⟨?_, fr2 hFt u2 hg hd, u3.trans ht⟩
      rw [pre_s, ← ec, ← Nat.mul_assoc]
      exact u1
    have key2 : wp (wt_whC (bX11_times_2 r g a) ((0 : Int32), s1)) (fun t => GR t g d (N * ch n k * pre n k tk k) ∧ Fr [] τ0 t ∧ t.2 = s0.2) := by
      refine wp_for k 0 (fun i v => ∃ t, v = (nI i, t) ∧ GR t g d (N * ch n k * pre n k tk i) ∧ Fr [] τ0 t ∧ t.2 = s0.2) (by omega) ⟨s1, rfl, by rw [pre_0, Nat.mul_one]; exact g1, f1, z1⟩ ?_ ?_
      · rintro i v hi ⟨t, rfl, hGt, hFt, ht⟩
        unfold bX11_times_2
        dsimp only
        obtain ⟨-, o1, o2, o3⟩ := hC.use hFt
        rw [fk t hFt, wt_bd_s, wp_ite, if_neg (by rw [nI_leI (by omega) (by omega)]; omega), o1, wt_bd_s, o2, wt_bd_s, o3, wt_bd_s, wt_ck_t hGt.cl]
        refine wp_ap (step i t tk (by omega) htk hGt hFt ht (by rw [if_neg (by omega)])) fun u hu => ?_
        rw [wp_lt, wp_some, lpo_l, nI_1]
        exact ⟨u, rfl, hu⟩
      · rintro v ⟨t, rfl, hGt, hFt, ht⟩
        unfold bX11_times_2
        dsimp only
        rw [fk t hFt, wt_bd_s, wp_ite, if_pos (by rw [nI_leI (by omega) (by omega)]; omega), wp_some, lpo_r]
        exact ⟨hGt, hFt, ht⟩
    refine wp_ap key2 fun s2 ⟨g2, f2, z2⟩ => ?_
    rw [fk s2 f2, wt_bd_s]
    have key3 : wp (wt_whC (bX11_times_3 r g (nI n, s0)) (nI k, s2)) (fun t => GR t g d (N * fct n k tk) ∧ Fr [] τ0 t ∧ t.2 = s0.2) := by
      refine wp_for n k (fun i v => k ≤ i ∧ ∃ t, v = (nI i, t) ∧ GR t g d (N * ch n k * pre n k tk i) ∧ Fr [] τ0 t ∧ t.2 = s0.2) c ⟨Nat.le_refl _, s2, rfl, g2, f2, z2⟩ ?_ ?_
      · rintro i v hi ⟨hki, t, rfl, hGt, hFt, ht⟩
        unfold bX11_times_3
        dsimp only
        obtain ⟨-, o1, o2, o3⟩ := hC.use hFt
        rw [wp_ite, if_neg (by rw [nI_leI (by omega) (by omega)]; omega), o1, wt_bd_s, o2, wt_bd_s, o3, wt_bd_s, wt_ck_t hGt.cl, il_sub2 htk]
        refine wp_ap (step i t (16 - tk) (by omega) (by omega) hGt hFt ht (by rw [if_pos hki])) fun u hu => ?_
        rw [wp_lt, wp_some, lpo_l, nI_1]
        exact ⟨by omega, u, rfl, hu⟩
      · rintro v ⟨hki, t, rfl, hGt, hFt, ht⟩
        unfold bX11_times_3
        dsimp only
        rw [wp_ite, if_pos (by rw [nI_leI (by omega) (by omega)]; omega), wp_some, lpo_r]
        refine ⟨?_, hFt, ht⟩
        rw [← pre_n c, ← Nat.mul_assoc]
        exact hGt
    refine wp_ap key3 fun s3 ⟨g3, f3, z3⟩ => ?_
    rw [wp_some]
    exact ⟨g3, f3, z3.trans e2⟩
  · rw [if_neg (by rw [nI_leI (by omega) (by omega)]; exact c), wt_ck_t hG1.cl]
    refine wp_ap (gtimes (c := 0) hG1 (by omega) (by rw [Nat.mul_zero]; exact Nat.pow_pos (by omega))) fun u ⟨u1, u2, u3⟩ => ?_
    rw [wp_some]
    refine ⟨?_, fr2 hF2 u2 hg hd, u3.trans e2⟩
    unfold fct
    rw [if_neg c]
    exact u1
def cPl (w : LW) (cm al : Nat → Int32) (m : Nat) (ev : Nat → Nat → Int32) (lo fi se th : Int32) (mo : Option (Nat × Nat × Nat)) (fd : Nat → Nat → Int32) (f : Nat) : Nat := fPile cm al (nRun w m ev (kpF lo fi se th ev) mo) (fd f)
def cMn (fd : Nat → Nat → Int32) (f : Nat) : Nat := (fd f 3).toNatClampNeg
theorem cPl_le (hC : RnC τ0 B r sl o lw m w cm al (nI tk) cl ev lo fi se th mo) {f : Nat} (hq : FdOk (fd f)) : cPl w cm al m ev lo fi se th mo fd f ≤ 60 := by
  have hcm : ∀ k, k < 10 → In (cm k) 20 := by obtain ⟨mv, hK, hB, hm, hev, hw, hcm⟩ := hC; exact hcm
  exact (fPile_le (al := al) hq hcm hC.B).1
theorem cScl_le (hC : RnC τ0 B r sl o lw m w cm al (nI tk) cl ev lo fi se th mo) (hn : FnC τ0 o nf fd) {sel : Nat → Bool} : ∀ n, n ≤ nf → nScl (cPl w cm al m ev lo fi se th mo fd) sel n ≤ 60 * n := by
  intro n
  induction n with
  | zero => intro _; exact Nat.le_refl _
  | succ n ih =>
    intro h
    rw [nScl_s]
    have h1 := ih (by omega)
    have h2 := cPl_le (fd := fd) hC (hn.2.2 n (by omega))
    split <;> omega
theorem sel_c {only : Int32} {f : Nat} (h : selO only f = true) {α : Type} (X : Option (Unit ⊕ α)) : (if only = (-1 : Int32) then (some (.inl ())) else (if only = nI f then (some (.inl ())) else X)) = some (.inl ()) := by
  by_cases c1 : only = -1
  · rw [if_pos c1]
  · rw [if_neg c1, if_pos]
    unfold selO at h
    have : nI f = only := by simpa [c1] using h
    exact this.symm
theorem sel_n {only : Int32} {f : Nat} (h : ¬ selO only f = true) : ¬ only = -1 ∧ ¬ only = nI f := ⟨fun z => h (by unfold selO; simp [z]), fun z => h (by unfold selO; simp [z])⟩
theorem crnumber {only : Int32} (hf : Wf τ) (hC : RnC τ B r sl o lw m w cm al (nI tk) cl ev lo fi se th mo) (htk : tk ≤ 16) (hn : FnC τ o nf fd) : wp (eX11_number τ r only) (fun out => ∃ d, τ.2 ≤ out.1 ∧ τ.2 ≤ d ∧ GR out.2 out.1 d (nNum (cPl w cm al m ev lo fi se th mo fd) (cMn fd) tk (selO only) nf) ∧ Fr [] τ out.2) := by
  unfold eX11_number
  rw [wp_lt]
  have a1 : (hnew τ (.inr (11, [.null, .int 0]))).1 τ.2 = some (.inr (11, [.null, .int 0])) := hnew_eq
  have aF : Fr [] τ (hnew τ (.inr (11, [.null, .int 0]))) := Fr.new
  have a2 : (hnew τ (.inr (11, [.null, .int 0]))).2 = τ.2 + 1 := rfl
  have aw := hf.new (x := .inr (11, [.null, .int 0]))
  generalize hnew τ (.inr (11, [.null, .int 0])) = t1 at a1 aF a2 aw
  rw [show (1 : Int32) = nI 1 from rfl]
  refine wp_ap (ginit aw (by omega) a1) fun t2 ⟨d, b1, b2, b3, b4⟩ => ?_
  have bF : Fr [] τ t2 := aF.then b3 fun q hq => Or.inr (by
    have : q = τ.2 := by simpa using hq
    omega)
  have hd : τ.2 ≤ d := by omega
  have key : wp (wt_whC (bX11_number_1 τ r only) ((0 : Int32), t2, 2, 312)) (fun v => GR v.1 τ.2 d (nNum (cPl w cm al m ev lo fi se th mo fd) (cMn fd) tk (selO only) nf) ∧ Fr [] τ v.1 ∧ v.2.1 ≤ 30 ∧ v.2.2 ≤ 1300) := by
    have hn' := hn
    obtain ⟨⟨st, fl, es, hn1, hlen⟩, hn8, hfd⟩ := hn
    refine wp_for nf 0 (fun f v => ∃ t c s, v = (nI f, t, c, s) ∧ c ≤ 2 + 3 * f ∧ s ≤ 312 + 113 * f ∧ GR t τ.2 d (nNum (cPl w cm al m ev lo fi se th mo fd) (cMn fd) tk (selO only) f) ∧ Fr [] τ t) (by omega) ⟨t2, 2, 312, rfl, by omega, by omega, b2, bF⟩ ?_ ?_
    · rintro f v hfn ⟨t, c, s, rfl, hc, hs, hG, hF⟩
      obtain ⟨o1, o3, ⟨dl, o5⟩, o7⟩ := hn1 t hF
      obtain ⟨u1, u2, -, -⟩ := hC.use hF
      obtain ⟨a, a3, a4⟩ := o7 f (by omega)
      unfold bX11_number_1
      dsimp only
      rw [u2, wt_bd_s, o1, wt_bd_s, o3, wt_bd_s, wt_ck_t o5.cl, jsize o5, wt_bd_s, hlen, wt_ck_t ⟨by omega, by omega⟩, wp_ite, if_neg (by rw [nI_leI (by omega) (by omega)]; omega)]
      by_cases csel : selO only f = true
      · rw [sel_c csel, wt_bd_s, rs_l, wt_bd_s, o1, wt_bd_s, o3, wt_bd_s, wt_ck_t o5.cl, jget o5 a3, wt_bd_s, wt_ck_t ⟨by omega, by omega⟩, wt_ck_t (hcl_of a4), wt_ck_t u1]
        have hak : ∀ t', Fr [] τ t' → FdR t' a (fd f) := fun t' ht' => by
          obtain ⟨-, -, -, z⟩ := hn1 t' ht'
          obtain ⟨a', e1, e2⟩ := z f (by omega)
          rw [a3] at e1
          cases e1
          exact e2
        obtain ⟨q1, q2, q3, k, hk, ek⟩ := hfd f hfn
        have hNb : nNum (cPl w cm al m ev lo fi se th mo fd) (cMn fd) tk (selO only) f ≤ 16 ^ 420 := Nat.le_trans (nNum_le htk f) (p16 (by have := cScl_le hC hn' (sel := selO only) f (by omega); omega))
        refine wp_ap (crtimes hf hC htk hF (Nat.le_refl _) hd hG hak ⟨q1, q2, q3, k, hk, ek⟩ ek (by omega) hNb) fun t' ⟨g1, g2, g3⟩ => ?_
        rw [wt_ck_t ⟨by omega, by omega⟩, wp_lt, wp_some, lpo_l, nI_1]
        refine ⟨t', _, _, rfl, by omega, by omega, ?_, g2⟩
        rw [nNum_s, if_pos csel]
        have : cMn fd f = k := by unfold cMn; rw [ek]; exact nI_clamp (by omega)
        rw [this]
        exact g1
      · obtain ⟨c1, c2⟩ := sel_n csel
        rw [if_neg c1, if_neg c2]
        show wp (some (Sum.inl (nI f + 1, t, c, s))) _
        rw [wp_some, lpo_l, nI_1]
        refine ⟨t, _, _, rfl, by omega, by omega, ?_, hF⟩
        rw [nNum_s, if_neg csel]
        exact hG
    · rintro v ⟨t, c, s, rfl, hc, hs, hG, hF⟩
      obtain ⟨o1, o3, ⟨dl, o5⟩, o7⟩ := hn1 t hF
      obtain ⟨u1, u2, -, -⟩ := hC.use hF
      unfold bX11_number_1
      dsimp only
      rw [u2, wt_bd_s, o1, wt_bd_s, o3, wt_bd_s, wt_ck_t o5.cl, jsize o5, wt_bd_s, hlen, wt_ck_t ⟨by omega, by omega⟩, wp_ite, if_pos (by rw [nI_leI (by omega) (by omega)]; omega), wp_some, lpo_r]
      exact ⟨hG, hF, by show c ≤ 30; omega, by show s ≤ 1300; omega⟩
  refine wp_ap key fun v ⟨g1, g2, g3, g4⟩ => ?_
  rw [wt_ck_t ⟨g3, g4⟩, wp_some]
  exact ⟨d, Nat.le_refl _, hd, g1, g2⟩
theorem crscale {only : Int32} (hf : Wf τ) (hC : RnC τ B r sl o lw m w cm al (nI tk) cl ev lo fi se th mo) (hn : FnC τ o nf fd) : wp (eX11_scale τ r only) (fun out => out.1 = nI (nScl (cPl w cm al m ev lo fi se th mo fd) (selO only) nf) ∧ Fr [] τ out.2) := by
  unfold eX11_scale
  have key : wp (wt_whC (bX11_scale_1 r only) ((0 : Int32), (0 : Int32), τ, 0, 0)) (fun v => v.1 = nI (nScl (cPl w cm al m ev lo fi se th mo fd) (selO only) nf) ∧ Fr [] τ v.2.1 ∧ v.2.2.1 ≤ 30 ∧ v.2.2.2 ≤ 1000) := by
    have hn' := hn
    obtain ⟨⟨st, fl, es, hn1, hlen⟩, hn8, hfd⟩ := hn
    refine wp_for nf 0 (fun f v => ∃ t c s, v = (nI (nScl (cPl w cm al m ev lo fi se th mo fd) (selO only) f), nI f, t, c, s) ∧ c ≤ 3 * f ∧ s ≤ 113 * f ∧ Fr [] τ t) (by omega) ⟨τ, 0, 0, rfl, by omega, by omega, Fr.rfl⟩ ?_ ?_
    · rintro f v hfn ⟨t, c, s, rfl, hc, hs, hF⟩
      obtain ⟨o1, o3, ⟨dl, o5⟩, o7⟩ := hn1 t hF
      obtain ⟨u1, u2, -, -⟩ := hC.use hF
      obtain ⟨a, a3, a4⟩ := o7 f (by omega)
      unfold bX11_scale_1
      dsimp only
      rw [u2, wt_bd_s, o1, wt_bd_s, o3, wt_bd_s, wt_ck_t o5.cl, jsize o5, wt_bd_s, hlen, wt_ck_t ⟨by omega, by omega⟩, wp_ite, if_neg (by rw [nI_leI (by omega) (by omega)]; omega)]
      by_cases csel : selO only f = true
      · rw [sel_c csel, wt_bd_s, rs_l, wt_bd_s, o1, wt_bd_s, o3, wt_bd_s, wt_ck_t o5.cl, jget o5 a3, wt_bd_s, wt_ck_t ⟨by omega, by omega⟩, wt_ck_t (hcl_of a4), wt_ck_t u1]
        refine wp_ap (crpile (hF.1 hf) (hC.of hF) a4 (hfd f hfn)) fun out ⟨g1, g2, g3⟩ => ?_
        rw [wt_ck_t ⟨by omega, by omega⟩, wp_lt, wp_lt, wp_some, lpo_l, nI_1, g1, nI_add]
        refine ⟨out.2, c + 3, s + 113, ?_, by omega, by omega, hF.trans g2⟩
        rw [nScl_s, if_pos csel]
        rfl
      · obtain ⟨c1, c2⟩ := sel_n csel
        rw [if_neg c1, if_neg c2]
        show wp (some (Sum.inl (nI (nScl (cPl w cm al m ev lo fi se th mo fd) (selO only) f), nI f + 1, t, c, s))) _
        rw [wp_some, lpo_l, nI_1]
        refine ⟨t, c, s, ?_, by omega, by omega, hF⟩
        rw [nScl_s, if_neg csel]
    · rintro v ⟨t, c, s, rfl, hc, hs, hF⟩
      obtain ⟨o1, o3, ⟨dl, o5⟩, o7⟩ := hn1 t hF
      obtain ⟨u1, u2, -, -⟩ := hC.use hF
      unfold bX11_scale_1
      dsimp only
      rw [u2, wt_bd_s, o1, wt_bd_s, o3, wt_bd_s, wt_ck_t o5.cl, jsize o5, wt_bd_s, hlen, wt_ck_t ⟨by omega, by omega⟩, wp_ite, if_pos (by rw [nI_leI (by omega) (by omega)]; omega), wp_some, lpo_r]
      exact ⟨rfl, hF, by show c ≤ 30; omega, by show s ≤ 1000; omega⟩
  refine wp_ap key fun v ⟨g1, g2, g3, g4⟩ => ?_
  rw [wt_ck_t ⟨g3, g4⟩, wp_some]
  exact ⟨g1, g2⟩
end CN
section CW
variable {τ : HP} {B o lw : Nat} {w : LW} {cm al : Nat → Int32} {cl : Int32} {tk nf : Nat} {fd : Nat → Nat → Int32} {only : Int32}
variable {r1 sl1 m1 : Nat} {ev1 : Nat → Nat → Int32} {lo1 fi1 se1 th1 : Int32} {mo1 : Option (Nat × Nat × Nat)}
variable {r2 sl2 m2 : Nat} {ev2 : Nat → Nat → Int32} {lo2 fi2 se2 th2 : Int32} {mo2 : Option (Nat × Nat × Nat)}
theorem cNum_le (hA : RnC τ B r1 sl1 o lw m1 w cm al (nI tk) cl ev1 lo1 fi1 se1 th1 mo1) (htk : tk ≤ 16) (hn : FnC τ o nf fd) : nNum (cPl w cm al m1 ev1 lo1 fi1 se1 th1 mo1 fd) (cMn fd) tk (selO only) nf ≤ 16 ^ 480 ∧ nScl (cPl w cm al m1 ev1 lo1 fi1 se1 th1 mo1 fd) (selO only) nf ≤ 480 := by
  have h1 := cScl_le hA hn (sel := selO only) nf (Nat.le_refl _)
  have h2 := hn.2.1
  exact ⟨Nat.le_trans (nNum_le htk nf) (p16 (by omega)), by omega⟩
theorem cscaled (hf : Wf τ) (hA : RnC τ B r1 sl1 o lw m1 w cm al (nI tk) cl ev1 lo1 fi1 se1 th1 mo1) (hB : RnC τ B r2 sl2 o lw m2 w cm al (nI tk) cl ev2 lo2 fi2 se2 th2 mo2) (htk : tk ≤ 16) (hn : FnC τ o nf fd) :
    wp (eX1_scaled τ r1 r2 only) (fun out => ∃ d, τ.2 ≤ out.1 ∧ τ.2 ≤ d ∧ GR out.2 out.1 d (nNum (cPl w cm al m1 ev1 lo1 fi1 se1 th1 mo1 fd) (cMn fd) tk (selO only) nf * 16 ^ nScl (cPl w cm al m2 ev2 lo2 fi2 se2 th2 mo2 fd) (selO only) nf) ∧ Fr [] τ out.2) := by
  obtain ⟨hN, -⟩ := cNum_le (only := only) hA htk hn
  obtain ⟨-, hS⟩ := cNum_le (only := only) hB htk hn
  unfold eX1_scaled
  rw [wt_ck_t (hA.use Fr.rfl).1]
  refine wp_ap (crnumber (only := only) hf hA htk hn) fun out ⟨d, a1, a2, a3, a4⟩ => ?_
  obtain ⟨g, t1⟩ := out
  dsimp only at a1 a2 a3 a4 ⊢
  rw [wt_ck_t (hB.use a4).1]
  refine wp_ap (crscale (only := only) (a4.1 hf) (hB.of a4) (hn.of a4)) fun out ⟨b1, b2⟩ => ?_
  obtain ⟨sv, t2⟩ := out
  dsimp only at b1 b2 ⊢
  subst b1
  generalize nNum (cPl w cm al m1 ev1 lo1 fi1 se1 th1 mo1 fd) (cMn fd) tk (selO only) nf = N at hN a3
  generalize nScl (cPl w cm al m2 ev2 lo2 fi2 se2 th2 mo2 fd) (selO only) nf = S at hS
  have a5 : GR t2 g d N := a3.keep b2 (a4.1 hf) (by simp) (by simp)
  have key : wp (wt_whC (bX1_scaled_1 (g, t1)) (nI S, t2)) (fun t => GR t g d (N * 16 ^ S) ∧ Fr [] τ t) := by
    refine wp_loop (fun n v => ∃ t, n ≤ S ∧ v = (nI n, t) ∧ GR t g d (N * 16 ^ (S - n)) ∧ Fr [] τ t) ?_ S _ ⟨t2, Nat.le_refl _, rfl, by rw [Nat.sub_self, Nat.pow_zero, Nat.mul_one]; exact a5, a4.trans b2⟩
    rintro n v ⟨t, hn2, rfl, hG, hF⟩
    unfold bX1_scaled_1
    dsimp only
    rw [wp_ite]
    cases n with
    | zero =>
      rw [if_pos (by rw [nI_0]; decide), wp_some, lpo_r]
      exact ⟨hG, hF⟩
    | succ n =>
      have hbd : N * 16 ^ (S - (n + 1)) * 16 < 10000 ^ 310 := by
        rw [Nat.mul_assoc, ← Nat.pow_succ]
        refine Nat.lt_of_le_of_lt (Nat.mul_le_mul hN (p16 (show S - (n + 1) + 1 ≤ 480 by omega))) ?_
        rw [← Nat.pow_add]
        exact Nat.lt_of_le_of_lt (p16 (by omega)) big_310
      rw [if_neg (nI_nle (by omega) (by omega)), wt_ck_t hG.cl]
      refine wp_ap (gtimes (c := 16) hG (by omega) hbd) fun u ⟨u1, u2, u3⟩ => ?_
      rw [wp_lt, wp_some, lpo_l, pk_m1]
      refine ⟨n, by omega, u, by omega, rfl, ?_, fr2 hF u2 a1 a2⟩
      rw [show S - n = (S - (n + 1)) + 1 from by omega, Nat.pow_succ, ← Nat.mul_assoc]
      exact u1
  refine wp_ap key fun t ⟨c1, c2⟩ => ?_
  rw [wp_some]
  exact ⟨d, a1, a2, c1, c2⟩
theorem wth_0 {M : Nat} (hM : M ≠ 0) : ∀ n high, wth 0 M n 0 high = 0 := by
  intro n
  induction n with
  | zero => intro _; rfl
  | succ n ih =>
    intro high
    unfold wth
    by_cases c : high ≤ 0
    · rw [if_pos c]
    · rw [if_neg c, if_neg]
      · exact ih _
      · have h1 : 0 < (0 + high + 1) / 2 := by omega
        have h2 := Nat.mul_pos (Nat.pos_of_ne_zero hM) h1
        omega
theorem cworthOf (hf : Wf τ) (hA : RnC τ B r1 sl1 o lw m1 w cm al (nI tk) cl ev1 lo1 fi1 se1 th1 mo1) (hB : RnC τ B r2 sl2 o lw m2 w cm al (nI tk) cl ev2 lo2 fi2 se2 th2 mo2) (htk : tk ≤ 16) (hn : FnC τ o nf fd) :
    wp (eX1_worthOf τ r1 r2 only) (fun out => out.1 = nI (wNow (nNum (cPl w cm al m1 ev1 lo1 fi1 se1 th1 mo1 fd) (cMn fd) tk (selO only) nf * 16 ^ nScl (cPl w cm al m2 ev2 lo2 fi2 se2 th2 mo2 fd) (selO only) nf) (nNum (cPl w cm al m2 ev2 lo2 fi2 se2 th2 mo2 fd) (cMn fd) tk (selO only) nf * 16 ^ nScl (cPl w cm al m1 ev1 lo1 fi1 se1 th1 mo1 fd) (selO only) nf)) ∧ Fr [] τ out.2) := by
  obtain ⟨hNA, hSA⟩ := cNum_le (only := only) hA htk hn
  obtain ⟨hNB, hSB⟩ := cNum_le (only := only) hB htk hn
  unfold eX1_worthOf
  refine wp_ap (cscaled (only := only) hf hA hB htk hn) fun out ⟨d, a1, a2, a3, a4⟩ => ?_
  obtain ⟨g, t1⟩ := out
  dsimp only at a1 a2 a3 a4 ⊢
  refine wp_ap (cscaled (only := only) (a4.1 hf) (hB.of a4) (hA.of a4) htk (hn.of a4)) fun out ⟨e, b1, b2, b3, b4⟩ => ?_
  obtain ⟨h, t2⟩ := out
  dsimp only at b1 b2 b3 b4 ⊢
  have hM : nNum (cPl w cm al m2 ev2 lo2 fi2 se2 th2 mo2 fd) (cMn fd) tk (selO only) nf * 16 ^ nScl (cPl w cm al m1 ev1 lo1 fi1 se1 th1 mo1 fd) (selO only) nf ≤ 16 ^ 960 := by
    refine Nat.le_trans (Nat.mul_le_mul hNB (p16 hSA)) ?_
    rw [← Nat.pow_add]
    exact p16 (by omega)
  generalize nNum (cPl w cm al m1 ev1 lo1 fi1 se1 th1 mo1 fd) (cMn fd) tk (selO only) nf * 16 ^ nScl (cPl w cm al m2 ev2 lo2 fi2 se2 th2 mo2 fd) (selO only) nf = N at a3
  generalize nNum (cPl w cm al m2 ev2 lo2 fi2 se2 th2 mo2 fd) (cMn fd) tk (selO only) nf * 16 ^ nScl (cPl w cm al m1 ev1 lo1 fi1 se1 th1 mo1 fd) (selO only) nf = M at b3 hM
  have w1 := a4.1 hf
  have w2 := b4.1 w1
  have F2 : Fr [] τ t2 := a4.trans b4
  have a5 : GR t2 g d N := a3.keep b4 w1 (by simp) (by simp)
  have hgt : g < t1.2 := by
    obtain ⟨f, sz, ⟨z, -⟩, -⟩ := a3
    exact w1 _ _ z
  have hdt : d < t1.2 := by
    obtain ⟨f, sz, ⟨-, z, -⟩, -⟩ := a3
    exact w1 _ _ z
  rw [wt_ck_t b3.cl, gzero b3, wt_bd_s]
  unfold wNow
  by_cases hM0 : M = 0
  · rw [if_pos hM0, if_neg (by decide), wt_ck_t a5.cl, gzero a5, wt_bd_s]
    by_cases hN0 : N = 0
    · rw [if_pos hN0, if_neg (by decide), wp_some, if_pos hN0]
      exact ⟨rfl, F2⟩
    · rw [if_neg hN0, if_pos rfl, wp_some, if_neg hN0, if_pos hM0]
      exact ⟨rfl, F2⟩
  · rw [if_neg hM0, if_pos rfl, wp_lt, if_neg hM0]
    have ew : (if N = 0 then 0 else wth N M 1000000 0 1000000) = wth N M 1000000 0 1000000 := by
      by_cases hN0 : N = 0
      · rw [if_pos hN0, hN0, wth_0 hM0]
      · rw [if_neg hN0]
    rw [ew]
    have c1 : (hnew t2 (.inr (11, [.null, .int 0]))).1 t2.2 = some (.inr (11, [.null, .int 0])) := hnew_eq
    have cF : Fr [] t2 (hnew t2 (.inr (11, [.null, .int 0]))) := Fr.new
    have c2 : (hnew t2 (.inr (11, [.null, .int 0]))).2 = t2.2 + 1 := rfl
    have cw := w2.new (x := .inr (11, [.null, .int 0]))
    generalize hnew t2 (.inr (11, [.null, .int 0])) = t3 at c1 cF c2 cw
    rw [show (0 : Int32) = nI 0 from rfl]
    refine wp_ap (ginit cw (by omega) c1) fun t4 ⟨k, d1, d2, d3, d4⟩ => ?_
    have F4 : Fr [] t2 t4 := cF.then d3 fun q hq => Or.inr (by
      have : q = t2.2 := by simpa using hq
      omega)
    have hht : h < t2.2 := by
      obtain ⟨f, sz, ⟨z, -⟩, -⟩ := b3
      exact w2 _ _ z
    have het : e < t2.2 := by
      obtain ⟨f, sz, ⟨-, z, -⟩, -⟩ := b3
      exact w2 _ _ z
    have b5 : GR t4 h e M := b3.keep F4 w2 (by simp) (by simp)
    have a6 : GR t4 g d N := a5.keep F4 w2 (by simp) (by simp)
    have w4 := F4.1 w2
    have mono := b4.2.1
    have key : wp (wt_whC (bX1_worthOf_1 (g, t1) (h, t2)) (nI 0, (1000000 : Int32), t4)) (fun v => v.1 = nI (wth N M 1000000 0 1000000) ∧ Fr [] τ v.2) := by
      refine wp_loop (fun m v => ∃ low high t, v = (nI low, nI high, t) ∧ low ≤ high ∧ high ≤ 1000000 ∧ high ≤ low + m ∧ (∃ K, GR t t2.2 k K) ∧ Fr [t2.2, k] t4 t ∧ wth N M m low high = wth N M 1000000 0 1000000) ?_ 1000000 _ ⟨0, 1000000, t4, rfl, by omega, by omega, by omega, ⟨0, d2⟩, Fr.rfl, rfl⟩
      rintro m v ⟨low, high, t, rfl, hl, hh, hm, ⟨K, hK⟩, hF, ee⟩
      have b6 : GR t h e M := b5.keep hF w4 (by simp; omega) (by simp; omega)
      have a7 : GR t g d N := a6.keep hF w4 (by simp; omega) (by simp; omega)
      have FF : Fr [] τ t := (F2.trans F4).then hF fun q hq => Or.inr (by
        have h1 : q = t2.2 ∨ q = k := by simpa using hq
        have h2 := F2.2.1
        omega)
      unfold bX1_worthOf_1
      dsimp only
      by_cases c : high ≤ low
      · rw [wp_ite, if_pos (by rw [nI_leI (by omega) (by omega)]; exact c), wp_some, lpo_r]
        refine ⟨?_, FF⟩
        rw [← ee]
        cases m with
        | zero => rfl
        | succ m => unfold wth; rw [if_pos c]
      · cases m with
        | zero => omega
        | succ m =>
          have em : (nI low + nI high + 1) / 2 = nI ((low + high + 1) / 2) := by
            rw [nI_add, nI_1]
            exact pk_div (d := 2) (by omega) (by omega) (by omega)
          have hu : wth N M (m + 1) low high = if M * ((low + high + 1) / 2) ≤ N then wth N M m ((low + high + 1) / 2) high else wth N M m low ((low + high + 1) / 2 - 1) := by
            show (if high ≤ low then low else _) = _
            rw [if_neg c]
          rw [hu] at ee
          have hbd : M * ((low + high + 1) / 2) < 10000 ^ 310 := by
            have h5 : (low + high + 1) / 2 ≤ 16 ^ 5 := by
              have : (16 : Nat) ^ 5 = 1048576 := by decide
              omega
            refine Nat.lt_of_le_of_lt (Nat.mul_le_mul hM h5) ?_
            rw [← Nat.pow_add]
            exact Nat.lt_of_le_of_lt (p16 (by omega)) big_310
          rw [wp_ite, if_neg (by rw [nI_leI (by omega) (by omega)]; exact c), wp_lt, em, wt_ck_t hK.cl]
          refine wp_ap (gbecome hK b6 (by omega) (by omega)) fun s1 ⟨k1, k2, k3⟩ => ?_
          rw [wt_ck_t k1.cl]
          refine wp_ap (gtimes k1 (by omega) hbd) fun s2 ⟨k4, k5, k6⟩ => ?_
          have F5 : Fr [t2.2, k] t4 s2 := (hF.trans k2).trans k5
          have a8 : GR s2 g d N := a6.keep F5 w4 (by simp; omega) (by simp; omega)
          rw [wt_ck_t a8.cl, gcompare a8 k4, wt_bd_s]
          by_cases c2 : M * ((low + high + 1) / 2) ≤ N
          · rw [if_pos c2] at ee
            rw [wp_ite, if_neg (by rw [cmpI_neg]; omega), wp_some, lpo_l]
            exact ⟨m, by omega, _, _, _, rfl, by omega, hh, by omega, ⟨_, k4⟩, F5, ee⟩
          · rw [if_neg c2] at ee
            rw [wp_ite, if_pos (by rw [cmpI_neg]; omega), wp_lt, wp_some, lpo_l]
            refine ⟨m, by omega, low, (low + high + 1) / 2 - 1, s2, ?_, by omega, by omega, by omega, ⟨_, k4⟩, F5, ee⟩
            rw [show nI ((low + high + 1) / 2) - 1 = nI ((low + high + 1) / 2 - 1) from nI_sub1 (by omega)]
    refine wp_ap key fun v ⟨v1, v2⟩ => ?_
    rw [wp_some]
    exact ⟨v1, v2⟩
end CW
/-! THE PLAIN LAW, 23: the component reads an event -/
set_option maxRecDepth 100000
theorem lt_len {τ : HP} {l : Nat} {L : List Nat} (hL : LtR τ l L) (hl : L.length < 2 ^ 31) : eL9_length τ l = some (nI L.length) := by
  obtain ⟨la, rest, lg, l1, l2, l3⟩ := hL
  unfold eL9_length eL9_coder
  rw [hgA_of (cs := [16]) (k := 0) l1 rfl rfl, wt_bd_s, hln_of l2, wt_bd_s, wt_ck_t (hcl_of l1), if_neg (by decide), hgI_of (cs := [16]) (k := 1) l1 rfl rfl, wt_bd_s, wt_ck_t (by first | rfl | decide), wt_bd_s]
  exact congrArg some (sc_shr0 hl)
/-- the events cs in the list at l -/
def evF (c : Nat × Nat × Nat × Nat) : Nat → Int32 := fun j => if j = 0 then nI c.1 else if j = 1 then nI c.2.1 else if j = 2 then nI c.2.2.1 else nI c.2.2.2
def EsR (τ : HP) (l d : Nat) (es : List Nat) (cs : List (Nat × Nat × Nat × Nat)) : Prop := LA τ l d es ∧ es.length = cs.length ∧ ∀ (i : Nat) (c : Nat × Nat × Nat × Nat), cs[i]? = some c → ∃ a, es[i]? = some a ∧ EvR τ a (evF c)
theorem EsR.keep {W : List Nat} {τ τ' : HP} {l d : Nat} {es : List Nat} {cs : List (Nat × Nat × Nat × Nat)} (h : EsR τ l d es cs) (hF : Fr W τ τ') (hf : Wf τ) (hl : l ∉ W) (hd : d ∉ W) (he : ∀ a, a ∈ es → a ∉ W) : EsR τ' l d es cs := by
  obtain ⟨h1, h2, h3⟩ := h
  refine ⟨h1.keep hF hf hl hd, h2, fun i c hc => ?_⟩
  obtain ⟨a, a1, c', y, a2, a3⟩ := h3 i c hc
  exact ⟨a, a1, c', y, hF.at hf a2 (he a (List.mem_of_getElem? a1)), a3⟩
def lastH (cs : List (Nat × Nat × Nat × Nat)) : Option Nat := cs.getLast?.map fun c => c.2.2.2
section CE
variable {τ : HP} {o tp n p0 l d : Nat} {fr0 : Int32} {tx : Nat → Nat} {es : List Nat} {cs : List (Nat × Nat × Nat × Nat)}
def StE (τ : HP) (o tp n : Nat) (t : HP) (p : Nat) : Prop := (∃ fr, RdR t o tp n p fr) ∧ Fr [o] τ t ∧ p ≤ n
def ErC {α γ : Type} (τ : HP) (o : Nat) (C : PR γ → α ⊕ (Nat × Nat × HP) → Prop) : Prop := ∀ (e : Nat × Nat) (a : Nat) (t : HP), WrR t a e.1 e.2 → Fr [o] τ t → C (.inl e) (.inr (4, a, t))
theorem ce_num {α γ : Type} {t : HP} {p lo hi : Nat} {f : Int32 × HP → Option (α ⊕ (Nat × Nat × HP))} {k : Nat × Nat → PR γ} {C : PR γ → α ⊕ (Nat × Nat × HP) → Prop} (hf : Wf τ) (hr : RdR τ o tp n p0 fr0) (ht : TxR τ tp tx) (hC : ErC τ o C) (hS : StE τ o tp n t p) (hn : n ≤ 400) (hlo : lo ≤ 999) (hhi : hi ≤ 999)
    (hk : ∀ v p' u, StE τ o tp n u p' → Fr [o] t u → lo ≤ v → v ≤ hi → wp (f (nI v, u)) (C (k (v, p')))) :
    wp (wt_ck (hcl t o = some 3) <| wt_bd (eX5_number t o (nI lo) (nI hi)) fun w => wt_rs w f (fun x_ => some (.inr x_))) (C (pB (pNum tx n lo hi none p) k)) := by
  obtain ⟨⟨fr, h2⟩, h5, h6⟩ := hS
  rw [wt_ck_t (hcl_of h2)]
  refine cq_step (cnumber (h5.1 hf) h2 (tx_o h5 hf hr ht) hn h6 hlo hhi) (fun v p' u fr' e0 l0 R0 G0 => ?_) (fun e a u e0 k0 G0 => ?_)
  · have hv := pNum_ok h6 e0
    rw [e0, pB_r]
    exact hk v p' u ⟨⟨fr', R0⟩, h5.trans G0, l0⟩ G0 hv.1 hv.2.1
  · rw [e0, pB_l]
    exact ⟨_, rfl, hC e a u k0 (h5.trans G0)⟩
theorem ce_oth {α γ : Type} {t : HP} {p s : Nat} {f : Int32 × HP → Option (α ⊕ (Nat × Nat × HP))} {k : Nat × Nat → PR γ} {C : PR γ → α ⊕ (Nat × Nat × HP) → Prop} (hf : Wf τ) (hr : RdR τ o tp n p0 fr0) (ht : TxR τ tp tx) (hC : ErC τ o C) (hS : StE τ o tp n t p) (hn : n ≤ 400) (hs : s ≤ 999)
    (hk : ∀ v p' u, StE τ o tp n u p' → Fr [o] t u → v ≤ 9 → wp (f (nI v, u)) (C (k (v, p')))) :
    wp (wt_ck (hcl t o = some 3) <| wt_bd (eX5_other t o (nI s) (10 : Int32)) fun w => wt_rs w f (fun x_ => some (.inr x_))) (C (pB (pNum tx n 0 9 (some s) p) k)) := by
  obtain ⟨⟨fr, h2⟩, h5, h6⟩ := hS
  rw [wt_ck_t (hcl_of h2)]
  refine cq_step (cother (h5.1 hf) h2 (tx_o h5 hf hr ht) hn h6 hs) (fun v p' u fr' e0 l0 R0 G0 => ?_) (fun e a u e0 k0 G0 => ?_)
  · have hv := pNum_ok h6 e0
    rw [e0, pB_r]
    exact hk v p' u ⟨⟨fr', R0⟩, h5.trans G0, l0⟩ G0 hv.2.1
  · rw [e0, pB_l]
    exact ⟨_, rfl, hC e a u k0 (h5.trans G0)⟩
theorem rv_at : rvW [97, 116] = [20, 1] := by decide
/-- the word 'at' must come -/
theorem cneedW {lit : Nat → Nat} {p : Nat} {fr : Int32} (hf : Wf τ) (h : RdR τ o tp n p fr) (ht : TxR τ tp tx) (hn : n ≤ 400) (hp : p ≤ n) (hL : Lits τ lit) : wp (eX5_needWord τ o (lit 132)) (CN τ o tp n (if wd tx n (skB tx n p) = [20, 1] then .inr (skL tx n (skB tx n p)) else .inl (1, skB tx n p))) := by
  obtain ⟨hq1, hq2⟩ := skB_le (tx := tx) hp
  have ht2 : ∀ k, k < n → tx k < 256 := by
    obtain ⟨f, t1, t2⟩ := ht
    exact fun k hk => (t2 k (by omega)).2
  have ho := hf o _ h
  unfold eX5_needWord
  rw [wt_ck_t (hcl_of h)]
  refine wp_ap (cword hf h ht hn hp) fun w2 ⟨a, g, b1, b2, b3, b4, b5, b6⟩ => ?_
  generalize skB tx n p = q at hq1 hq2 b3 b4 b5 ⊢
  have hf2 := b6.1 hf
  have hL2 := (hL.keep b6 hf (NoL.obj h (by decide) NoL.nil)).2.2.2.2.2.2.2.2.2.2.2
  have hk7 := wk_le (tx := tx) (n := n) (q := q)
  obtain ⟨r, r1, r2, r3⟩ := sg_eq b3 hL2 (by omega) (by decide)
  have hsame := same_wd (L := [97, 116]) ht2 b4 (by decide) (by decide)
  rw [rv_at] at hsame
  rw [wt_ck_t (hcl_of b3.1), r1, wt_bd_s]
  by_cases c : wd tx n q = [20, 1]
  · have hlen : wlen tx n q = 2 := by
      rw [← wlen_wd, c]; rfl
    have hskl := skL_le (tx := tx) hq2
    have e2 : q + 2 = skL tx n q := by
      unfold wlen at hlen
      omega
    rw [r2 (hsame.mpr c), if_neg (by decide), if_pos c, hgI_of (cs := [3]) (k := 2) b5 rfl rfl, wt_bd_s, wt_ck_t (by
      obtain ⟨la, rest, lg, l1, -⟩ := hL2
      exact hcl_of l1), lt_len hL2 (by decide), wt_bd_s]
    obtain ⟨t7, p1, R7, p3⟩ := rd_set (q' := skL tx n q) b5
    rw [nI_add, show q + [97, 116].length = skL tx n q from e2, p1, wt_bd_s, wp_some]
    exact ⟨hskl.2, ⟨_, R7⟩, b6.trans p3⟩
  · rw [r3 (fun z => c (hsame.mp z)), if_pos rfl, if_neg c, wt_ck_t (hcl_of b5)]
    refine wp_ap (cwrong b5 hf2) fun r ⟨r1, r2, r3, r4, r5⟩ => ?_
    rw [r1, wt_ck_t r3, wp_some]
    exact ⟨rfl, r2, fr_nil b6 r4⟩
theorem ce_at {α γ : Type} {lit : Nat → Nat} {t : HP} {p : Nat} {f : Int32 × HP → Option (α ⊕ (Nat × Nat × HP))} {k : Nat × Nat → PR γ} {C : PR γ → α ⊕ (Nat × Nat × HP) → Prop} (hf : Wf τ) (hr : RdR τ o tp n p0 fr0) (ht : TxR τ tp tx) (hL : Lits τ lit) (hE : EsR τ l d es cs) (hev : ∀ c, c ∈ cs → EvcOk c) (hC : ErC τ o C) (hS : StE τ o tp n t p) (hn : n ≤ 400)
    (hk : ∀ v p' u, StE τ o tp n u p' → Fr [o] t u → v ≤ 99 → wp (f (nI v, u)) (C (k (v, p')))) :
    wp (wt_ck (hcl t o = some 3) <| wt_bd (eX5_at lit t o l) fun w => wt_rs w f (fun x_ => some (.inr x_))) (C (pB (pAt tx n (lastH cs) p) k)) := by
  obtain ⟨⟨fr, h2⟩, h5, h6⟩ := hS
  have hft := h5.1 hf
  have htt := tx_o h5 hf hr ht
  obtain ⟨hq1, hq2⟩ := skB_le (tx := tx) h6
  obtain ⟨hr1, hr2⟩ := skL_le (tx := tx) hq2
  have hlen := hE.1.len
  have hcl := hE.2.1
  have heo : ∀ {x c : Nat} {fs : List Value}, τ.1 x = some (.inr (c, fs)) → c ≠ 3 → x ∉ [o] := fun {x c fs} h' hc z => by
    have z2 : x = o := by simpa using z
    rw [z2, show τ.1 o = some (.inr (3, _)) from hr] at h'
    injection h' with h'
    injection h' with h'
    exact hc (congrArg Prod.fst h').symm
  rw [wt_ck_t (hcl_of h2)]
  unfold eX5_at
  rw [wt_ck_t (hcl_of h2), wp_bd, pAt_e]
  refine wp_ap (cneedW hft h2 htt hn h6 (hL.keep h5 hf (NoL.obj hr (by decide) NoL.nil))) fun out hq => ?_
  revert hq
  by_cases c : wd tx n (skB tx n p) = [20, 1]
  · rw [if_pos c, if_pos c]
    cases out with
    | inr x => intro z; exact z.elim
    | inl t1 =>
      rintro ⟨d1, ⟨fr1, d2⟩, d3⟩
      have hf1 := d3.1 hft
      rw [rs_l, wt_ck_t (hcl_of d2)]
      refine wp_ap (cnumber' (lo := 0) (hi := 99) hf1 d2 (tx_o d3 hft h2 htt) hn d1 (by omega) (by omega)) fun out2 hq2 => ?_
      have hv := fun v => pNum_ok (tx := tx) (n := n) (lo := 0) (hi := 99) (ne := none) (o := v) d1
      revert hq2 hv
      cases pNum tx n 0 99 none (skL tx n (skB tx n p)) with
      | inl e =>
        cases out2 with
        | inl w => intro z _; exact z.elim
        | inr x =>
          rintro ⟨g1, g2, g3⟩ -
          obtain ⟨x1, x2, x3⟩ := x
          dsimp only at g1 g2 g3
          subst g1
          rw [rs_r, wp_some, rs_r]
          exact ⟨_, rfl, hC e x2 x3 g2 (h5.trans (d3.trans g3))⟩
      | inr v =>
        cases out2 with
        | inr x => intro z _; exact z.elim
        | inl w =>
          rintro ⟨g1, g2, g3, g4⟩ hv
          obtain ⟨w1, t2⟩ := w
          dsimp only at g1 g3 g4
          subst g1
          obtain ⟨-, v9, -, -⟩ := hv v rfl
          have F2 : Fr [o] τ t2 := h5.trans (d3.trans g4)
          have hf2 := F2.1 hf
          have hE2 : EsR t2 l d es cs := hE.keep F2 hf (by
            obtain ⟨mc, cap, f, l1, -⟩ := hE.1
            exact heo l1 (by decide)) (fun z => by
            obtain ⟨mc, cap, f, -, l2, -⟩ := hE.1
            have z2 : d = o := by simpa using z
            rw [z2, show τ.1 o = some (.inr (3, _)) from hr] at l2
            cases l2) (fun a ha => by
            obtain ⟨i, hi, e⟩ := List.getElem_of_mem ha
            have hi2 : i < cs.length := by omega
            obtain ⟨a', a1, c', y, a2, a3⟩ := hE.2.2 i _ (List.getElem?_eq_getElem hi2)
            rw [List.getElem?_eq_getElem hi, e] at a1
            cases a1
            refine heo a2 ?_
            rcases a3 with ⟨_, z, _⟩ | ⟨_, z, _⟩ | ⟨_, z, _⟩ | ⟨_, z, _⟩ | ⟨_, z, _⟩ <;> omega)
          rw [rs_l]
          dsimp only
          rw [wt_ck_t hE2.1.cl, jempty hE2.1, wt_bd_s]
          have fin : ∀ b, b = false → wp (some (.inl (nI v.1, t2) : (Int32 × HP) ⊕ (Nat × Nat × HP))) (fun a => wp (wt_rs a f fun x_ => some (.inr x_)) (C (pB (pB (.inr v) fun h => if b = true then .inl (3, skB tx n (skL tx n (skB tx n p))) else .inr h) k))) := fun b hb => by
            subst hb
            rw [wp_some, rs_l]
            exact hk v.1 v.2 t2 ⟨⟨_, g3⟩, F2, g2⟩ (d3.trans g4) v9
          by_cases c0 : es.length = 0
          · have e0 : cs = [] := List.eq_nil_of_length_eq_zero (by omega)
            rw [if_pos c0, if_neg (by decide)]
            subst e0
            exact fin false rfl
          · rw [if_neg c0, if_pos rfl, wt_ck_t hE2.1.cl, jsize hE2.1, wt_bd_s, wt_ck_t hE2.1.cl, nI_sub1 (by omega)]
            have hlt : es.length - 1 < cs.length := by omega
            obtain ⟨a, a1, a2⟩ := hE2.2.2 (es.length - 1) _ (List.getElem?_eq_getElem hlt)
            obtain ⟨ca, q1, q2, -, -⟩ := a2.cl
            have hlast : lastH cs = some (cs[es.length - 1]).2.2.2 := by
              unfold lastH
              rw [List.getLast?_eq_getElem?, ← hcl, List.getElem?_eq_getElem hlt]
              rfl
            have h99 := (hev _ (List.getElem_mem hlt)).2.2.2.2.2
            have hhr : evF (cs[es.length - 1]) 3 = nI (cs[es.length - 1]).2.2.2 := rfl
            rw [jget hE2.1 a1, wt_bd_s, q1, wt_bd_s, wt_ck_t q2, a2.hour, wt_bd_s, hhr, hlast]
            generalize (cs[es.length - 1]).2.2.2 = lh at h99
            by_cases c5 : lh ≤ v.1
            · rw [if_pos (by rw [nI_leI (by omega) (by omega)]; exact c5)]
              exact fin (lateH (some lh) v.1) (decide_eq_false (by omega))
            · rw [if_neg (by rw [nI_leI (by omega) (by omega)]; exact c5)]
              refine cfault2 (k := 3) (j := 3) (pl := skB tx n (skL tx n (skB tx n p))) g3 hf2 rfl fun u k1 k2 k3 => ?_
              show wp (wt_rs (Sum.inr _) _ _) _
              rw [rs_r]
              have hl : lateH (some lh) v.1 = true := decide_eq_true (by omega)
              show wp _ (C (pB (if lateH (some lh) v.1 = true then .inl (3, skB tx n (skL tx n (skB tx n p))) else .inr v) k))
              rw [hl, if_pos rfl]
              exact ⟨_, rfl, hC (3, skB tx n (skL tx n (skB tx n p))) _ u k1 (fr_nil F2 k2)⟩
  · rw [if_neg c, if_neg c]
    cases out with
    | inl w => intro z; exact z.elim
    | inr x =>
      rintro ⟨g1, g2, g3⟩
      obtain ⟨x1, x2, x3⟩ := x
      dsimp only at g1 g2 g3
      subst g1
      rw [rs_r, wp_some, rs_r]
      exact ⟨_, rfl, hC (1, skB tx n p) x2 x3 g2 (h5.trans g3)⟩
end CE
/-! THE PLAIN LAW, 24: the component reads an event: its words, its kinds -/
set_option maxRecDepth 100000
def swE1 (lit : Nat → Nat) : List ((Int32 × Nat × Int32) × List Nat) := [((3016370, lit 155, 1), [98, 97, 114, 101]), ((3642015, lit 92, 3), [119, 97, 115, 104]), ((3645311, lit 153, 0), [119, 101, 97, 114]), ((109399814, lit 159, 4), [115, 104, 97, 107, 101]), ((110550847, lit 157, 2), [116, 111, 117, 99, 104])]
def swE2 (lit : Nat → Nat) : List ((Int32 × Nat × Int32) × List Nat) := [((3016370, lit 155, 1), [98, 97, 114, 101]), ((3642015, lit 92, 3), [119, 97, 115, 104]), ((3645311, lit 153, 0), [119, 101, 97, 114]), ((110550847, lit 157, 2), [116, 111, 117, 99, 104])]
theorem swE1_ok {τ : HP} {lit : Nat → Nat} (h : Lits τ lit) : ∀ e, e ∈ swE1 lit → SwOk τ e.1 e.2 := by
  obtain ⟨h1, h2, h3, h4, h5, h6, h7, h8, h9, h10, h11, h12⟩ := h
  intro e he
  simp only [swE1, List.mem_cons, List.not_mem_nil, or_false] at he
  rcases he with z | z | z | z | z <;> subst z
  · exact ⟨h9, by dsimp only; decide, by dsimp only; decide, by dsimp only; decide +kernel⟩
  · exact ⟨h3, by dsimp only; decide, by dsimp only; decide, by dsimp only; decide +kernel⟩
  · exact ⟨h8, by dsimp only; decide, by dsimp only; decide, by dsimp only; decide +kernel⟩
  · exact ⟨h11, by dsimp only; decide, by dsimp only; decide, by dsimp only; decide +kernel⟩
  · exact ⟨h10, by dsimp only; decide, by dsimp only; decide, by dsimp only; decide +kernel⟩
theorem swE2_ok {τ : HP} {lit : Nat → Nat} (h : Lits τ lit) : ∀ e, e ∈ swE2 lit → SwOk τ e.1 e.2 := by
  obtain ⟨h1, h2, h3, h4, h5, h6, h7, h8, h9, h10, h11, h12⟩ := h
  intro e he
  simp only [swE2, List.mem_cons, List.not_mem_nil, or_false] at he
  rcases he with z | z | z | z <;> subst z
  · exact ⟨h9, by dsimp only; decide, by dsimp only; decide, by dsimp only; decide +kernel⟩
  · exact ⟨h3, by dsimp only; decide, by dsimp only; decide, by dsimp only; decide +kernel⟩
  · exact ⟨h8, by dsimp only; decide, by dsimp only; decide, by dsimp only; decide +kernel⟩
  · exact ⟨h10, by dsimp only; decide, by dsimp only; decide, by dsimp only; decide +kernel⟩
theorem rv_e : rvW [119, 101, 97, 114] = [18, 1, 5, 23] ∧ rvW [98, 97, 114, 101] = [5, 18, 1, 2] ∧ rvW [116, 111, 117, 99, 104] = [8, 3, 21, 15, 20] ∧ rvW [119, 97, 115, 104] = [8, 19, 1, 23] ∧ rvW [115, 104, 97, 107, 101] = [5, 11, 1, 8, 19] := by decide
theorem eK_cases {W : List Nat} : (eKind W = 0 ∧ W = [18, 1, 5, 23]) ∨ (eKind W = 1 ∧ W = [5, 18, 1, 2]) ∨ (eKind W = 2 ∧ W = [8, 3, 21, 15, 20]) ∨ (eKind W = 3 ∧ W = [8, 19, 1, 23]) ∨ (eKind W = 4 ∧ W = [5, 11, 1, 8, 19]) ∨ (eKind W = 5 ∧ W ≠ [18, 1, 5, 23] ∧ W ≠ [5, 18, 1, 2] ∧ W ≠ [8, 3, 21, 15, 20] ∧ W ≠ [8, 19, 1, 23] ∧ W ≠ [5, 11, 1, 8, 19]) := by
  unfold eKind
  by_cases c0 : W = [18, 1, 5, 23]
  · rw [if_pos c0]; exact Or.inl ⟨rfl, c0⟩
  · rw [if_neg c0]; right
    by_cases c1 : W = [5, 18, 1, 2]
    · rw [if_pos c1]; exact Or.inl ⟨rfl, c1⟩
    · rw [if_neg c1]; right
      by_cases c2 : W = [8, 3, 21, 15, 20]
      · rw [if_pos c2]; exact Or.inl ⟨rfl, c2⟩
      · rw [if_neg c2]; right
        by_cases c3 : W = [8, 19, 1, 23]
        · rw [if_pos c3]; exact Or.inl ⟨rfl, c3⟩
        · rw [if_neg c3]; right
          by_cases c4 : W = [5, 11, 1, 8, 19]
          · rw [if_pos c4]; exact Or.inl ⟨rfl, c4⟩
          · rw [if_neg c4]; exact Or.inr ⟨rfl, c0, c1, c2, c3, c4⟩
/-- the second switch's number of a kind -/
def ixE (w : Nat) : Int32 := if w < 4 then nI w else -1
theorem swE1_i {tx : Nat → Nat} {n q : Nat} {lit : Nat → Nat} : (∃ e, e ∈ swE1 lit ∧ wd tx n q = rvW e.2 ∧ e.1.2.2 = kI (eKind (wd tx n q)) 5) ∨ ((∀ e, e ∈ swE1 lit → wd tx n q ≠ rvW e.2) ∧ kI (eKind (wd tx n q)) 5 = -1) := by
  obtain ⟨v0, v1, v2, v3, v4⟩ := rv_e
  rcases eK_cases (W := wd tx n q) with ⟨a, b⟩ | ⟨a, b⟩ | ⟨a, b⟩ | ⟨a, b⟩ | ⟨a, b⟩ | ⟨a, b0, b1, b2, b3, b4⟩
  · exact Or.inl ⟨((3645311, lit 153, 0), [119, 101, 97, 114]), by simp [swE1], by rw [b, v0], by rw [a]; dsimp only; decide⟩
  · exact Or.inl ⟨((3016370, lit 155, 1), [98, 97, 114, 101]), by simp [swE1], by rw [b, v1], by rw [a]; dsimp only; decide⟩
  · exact Or.inl ⟨((110550847, lit 157, 2), [116, 111, 117, 99, 104]), by simp [swE1], by rw [b, v2], by rw [a]; dsimp only; decide⟩
  · exact Or.inl ⟨((3642015, lit 92, 3), [119, 97, 115, 104]), by simp [swE1], by rw [b, v3], by rw [a]; dsimp only; decide⟩
  · exact Or.inl ⟨((109399814, lit 159, 4), [115, 104, 97, 107, 101]), by simp [swE1], by rw [b, v4], by rw [a]; dsimp only; decide⟩
  · refine Or.inr ⟨fun e he => ?_, by rw [a]; decide⟩
    simp only [swE1, List.mem_cons, List.not_mem_nil, or_false] at he
    rcases he with z | z | z | z | z <;> subst z
    · rw [v1]; exact b1
    · rw [v3]; exact b3
    · rw [v0]; exact b0
    · rw [v4]; exact b4
    · rw [v2]; exact b2
theorem swE2_i {tx : Nat → Nat} {n q : Nat} {lit : Nat → Nat} : (∃ e, e ∈ swE2 lit ∧ wd tx n q = rvW e.2 ∧ e.1.2.2 = ixE (eKind (wd tx n q))) ∨ ((∀ e, e ∈ swE2 lit → wd tx n q ≠ rvW e.2) ∧ ixE (eKind (wd tx n q)) = -1) := by
  obtain ⟨v0, v1, v2, v3, v4⟩ := rv_e
  rcases eK_cases (W := wd tx n q) with ⟨a, b⟩ | ⟨a, b⟩ | ⟨a, b⟩ | ⟨a, b⟩ | ⟨a, b⟩ | ⟨a, b0, b1, b2, b3, b4⟩
  · exact Or.inl ⟨((3645311, lit 153, 0), [119, 101, 97, 114]), by simp [swE2], by rw [b, v0], by rw [a]; dsimp only; decide⟩
  · exact Or.inl ⟨((3016370, lit 155, 1), [98, 97, 114, 101]), by simp [swE2], by rw [b, v1], by rw [a]; dsimp only; decide⟩
  · exact Or.inl ⟨((110550847, lit 157, 2), [116, 111, 117, 99, 104]), by simp [swE2], by rw [b, v2], by rw [a]; dsimp only; decide⟩
  · exact Or.inl ⟨((3642015, lit 92, 3), [119, 97, 115, 104]), by simp [swE2], by rw [b, v3], by rw [a]; dsimp only; decide⟩
  · refine Or.inr ⟨fun e he => ?_, by rw [a]; decide⟩
    simp only [swE2, List.mem_cons, List.not_mem_nil, or_false] at he
    rcases he with z | z | z | z <;> subst z <;> rw [b] <;> dsimp only <;> decide
  · refine Or.inr ⟨fun e he => ?_, by rw [a]; decide⟩
    simp only [swE2, List.mem_cons, List.not_mem_nil, or_false] at he
    rcases he with z | z | z | z <;> subst z
    · rw [v1]; exact b1
    · rw [v3]; exact b3
    · rw [v0]; exact b0
    · rw [v2]; exact b2
theorem swE_nd {lit : Nat → Nat} : ((swE1 lit).map fun e => e.1.1).Nodup ∧ ((swE2 lit).map fun e => e.1.1).Nodup := by
  constructor <;> (simp only [swE1, swE2, List.map]; decide)
theorem kE_chain {β : Type} {X Y : Option β} {w : Nat} (h : w < 5) : (if kI w 5 = (0 : Int32) then X else if kI w 5 = (1 : Int32) then X else if kI w 5 = (2 : Int32) then X else if kI w 5 = (3 : Int32) then X else if kI w 5 = (4 : Int32) then X else Y) = X := by
  match w, h with
  | 0, _ => rw [if_pos (by decide)]
  | 1, _ => rw [if_neg (by decide), if_pos (by decide)]
  | 2, _ => rw [if_neg (by decide), if_neg (by decide), if_pos (by decide)]
  | 3, _ => rw [if_neg (by decide), if_neg (by decide), if_neg (by decide), if_pos (by decide)]
  | 4, _ => rw [if_neg (by decide), if_neg (by decide), if_neg (by decide), if_neg (by decide), if_pos (by decide)]
  | k + 5, h => exact absurd h (by omega)
/-- an event but for its sign -/
def pEv0 (tx : Nat → Nat) (n k : Nat) (last : Option Nat) (p : Nat) : PR (Nat × Nat × Nat × Nat × Nat) :=
  let q := skB tx n p
  let w := eKind (wd tx n q)
  if w = 5 then .inl (1, q) else if k = 20 then .inl (3, q) else
  pB (pNum tx n 0 9 none (skL tx n q)) fun a =>
  pB (if w = 0 then pNum tx n 0 7 none a.2 else if w = 2 then pNum tx n 0 9 (some a.1) a.2 else if w = 4 then pNum tx n 0 16 none a.2 else .inr (0, a.2)) fun b =>
  pB (pAt tx n last b.2) fun h => .inr (h.2, w, a.1, b.1, h.1)
theorem pEv_0 {tx : Nat → Nat} {n k p : Nat} {last : Option Nat} : pEvent tx n k last p = pB (pEv0 tx n k last p) fun c => pB (pSign tx n c.1) fun e => .inr (e, c.2) := by
  unfold pEvent pEv0
  dsimp only
  generalize eKind (wd tx n (skB tx n p)) = w
  by_cases c5 : w = 5
  · rw [if_pos c5, if_pos c5]; rfl
  · rw [if_neg c5, if_neg c5]
    by_cases c20 : k = 20
    · rw [if_pos c20, if_pos c20]; rfl
    · rw [if_neg c20, if_neg c20, pB_as]
      refine congrArg _ (funext fun a => ?_)
      rw [pB_as]
      refine congrArg _ (funext fun b => ?_)
      rw [pB_as]
      rfl
/-- the outcome of an event in the component -/
def CEv (τ : HP) (o tp n : Nat) (r : PR (Nat × Nat × Nat × Nat × Nat)) (out : (Nat × HP) ⊕ (Nat × Nat × HP)) : Prop := match r, out with
  | .inr c, .inl w => c.1 ≤ n ∧ (∃ fr, RdR w.2 o tp n c.1 fr) ∧ Fr [o] τ w.2 ∧ τ.2 ≤ w.1 ∧ EvR w.2 w.1 (evF c.2)
  | .inl e, .inr x => x.1 = 4 ∧ WrR x.2.2 x.2.1 e.1 e.2 ∧ Fr [o] τ x.2.2
  | _, _ => False
theorem cev_err {τ : HP} {o tp n : Nat} : ErC τ o (CEv τ o tp n) := fun e a t h1 h2 => ⟨rfl, h1, h2⟩
theorem cev_i5 {t : HP} {b : Nat} {x y z : Int32} (h : t.1 b = some (.inr (5, [.int 0, .int 0, .int 0]))) : eX8_init t b x y z = some (hst t b (.inr (5, [.int x, .int z, .int y]))) := by
  unfold eX8_init eX7_init
  rw [hp_of (cs := [5, 6, 7]) (k := 0) h rfl (by omega) (by simp), wt_bd_s, hp_of (cs := [5, 6, 7]) (k := 1) hst_eq rfl (by omega) (by simp), wt_bd_s, hst_hst, wt_bd_s, hp_of (cs := [5]) (k := 2) hst_eq rfl (by omega) (by simp), wt_bd_s, hst_hst]
  rfl
theorem cev_i6 {t : HP} {b : Nat} {x y z : Int32} (h : t.1 b = some (.inr (6, [.int 0, .int 0, .int 0]))) : eX9_init t b x y z = some (hst t b (.inr (6, [.int x, .int z, .int y]))) := by
  unfold eX9_init eX7_init
  rw [hp_of (cs := [5, 6, 7]) (k := 0) h rfl (by omega) (by simp), wt_bd_s, hp_of (cs := [5, 6, 7]) (k := 1) hst_eq rfl (by omega) (by simp), wt_bd_s, hst_hst, wt_bd_s, hp_of (cs := [6]) (k := 2) hst_eq rfl (by omega) (by simp), wt_bd_s, hst_hst]
  rfl
theorem cev_i7 {t : HP} {b : Nat} {x y z : Int32} (h : t.1 b = some (.inr (7, [.int 0, .int 0, .int 0]))) : eX10_init t b x y z = some (hst t b (.inr (7, [.int x, .int z, .int y]))) := by
  unfold eX10_init eX7_init
  rw [hp_of (cs := [5, 6, 7]) (k := 0) h rfl (by omega) (by simp), wt_bd_s, hp_of (cs := [5, 6, 7]) (k := 1) hst_eq rfl (by omega) (by simp), wt_bd_s, hst_hst, wt_bd_s, hp_of (cs := [7]) (k := 2) hst_eq rfl (by omega) (by simp), wt_bd_s, hst_hst]
  rfl
section CV
variable {τ : HP} {o tp n p0 l d : Nat} {fr0 : Int32} {tx : Nat → Nat} {es : List Nat} {cs : List (Nat × Nat × Nat × Nat)}
/-- the event's object is new, then its hour is read, then it is filled -/
theorem cev_at {lit : Nat → Nat} {t : HP} {p w a b cl : Nat} {y : Int32} {ini : HP → Nat → Int32 → Int32 → Int32 → Option HP} (hf : Wf τ) (hr : RdR τ o tp n p0 fr0) (ht : TxR τ tp tx) (hL : Lits τ lit) (hE : EsR τ l d es cs) (hev : ∀ c, c ∈ cs → EvcOk c) (hS : StE τ o tp n t p) (hn : n ≤ 400)
    (hi : ∀ {t : HP} {b : Nat} {x y z : Int32}, t.1 b = some (.inr (cl, [.int 0, .int 0, .int 0])) → ini t b x y z = some (hst t b (.inr (cl, [.int x, .int z, .int y]))))
    (hk : ∀ h : Nat, evF (w, a, b, h) 0 = 0 ∧ cl = 5 ∧ y = evF (w, a, b, h) 2 ∨ evF (w, a, b, h) 0 = 1 ∧ cl = 5 ∧ y = -1 ∨ evF (w, a, b, h) 0 = 2 ∧ cl = 6 ∧ y = evF (w, a, b, h) 2 ∨ evF (w, a, b, h) 0 = 3 ∧ cl = 7 ∧ y = -1 ∨ evF (w, a, b, h) 0 = 4 ∧ cl = 7 ∧ y = evF (w, a, b, h) 2) :
    wp (wt_lt (hnew t (.inr (cl, [.int 0, .int 0, .int 0]))) fun τ1 => wt_ck (hcl τ1 o = some 3) <| wt_bd (eX5_at lit τ1 o l) fun w98 => wt_rs w98 (fun o100 => wt_bd (ini o100.2 t.2 (nI a) y o100.1) fun w101 => some (.inl (t.2, w101) : (Nat × HP) ⊕ (Nat × Nat × HP))) (fun x_ => some (.inr x_))) (CEv τ o tp n (pB (pAt tx n (lastH cs) p) fun h => .inr (h.2, w, a, b, h.1))) := by
  obtain ⟨⟨fr, h2⟩, h5, h6⟩ := hS
  have hft := h5.1 hf
  have hot := hft o _ h2
  have hge := h5.2.1
  rw [wp_lt]
  have S1 : StE τ o tp n (hnew t (.inr (cl, [.int 0, .int 0, .int 0]))) p := ⟨⟨fr, (hnew_ne (by omega)).trans h2⟩, h5.trans Fr.new, h6⟩
  have e1 : (hnew t (.inr (cl, [.int 0, .int 0, .int 0]))).1 t.2 = some (.inr (cl, [.int 0, .int 0, .int 0])) := hnew_eq
  have f1 : Wf (hnew t (.inr (cl, [.int 0, .int 0, .int 0]))) := hft.new
  generalize hnew t (.inr (cl, [.int 0, .int 0, .int 0])) = t1 at S1 e1 f1
  refine ce_at (C := CEv τ o tp n) hf hr ht hL hE hev cev_err S1 hn fun v p' u S2 G2 hv => ?_
  have e2 := G2.at f1 e1 (by simp; omega)
  dsimp only
  rw [hi e2, wt_bd_s, wp_some]
  obtain ⟨⟨fr2, r2⟩, g5, g6⟩ := S2
  refine ⟨g6, ⟨fr2, (hst_ne (by omega)).trans r2⟩, g5.then (Fr.st (W := [t.2]) e2 (by simp)) fun q hq => Or.inr (by
    have : q = t.2 := by simpa using hq
    omega), hge, cl, y, hst_eq, hk v⟩
set_option maxHeartbeats 2000000 in
theorem cevent {lit : Nat → Nat} {p : Nat} {fr : Int32} (hf : Wf τ) (h : RdR τ o tp n p fr) (ht : TxR τ tp tx) (hn : n ≤ 400) (hp : p ≤ n) (hL : Lits τ lit) (hE : EsR τ l d es cs) (hev : ∀ c, c ∈ cs → EvcOk c) (h20 : cs.length ≤ 20) : wp (eX5_event lit τ o l) (CEv τ o tp n (pEv0 tx n cs.length (lastH cs) p)) := by
  obtain ⟨hq1, hq2⟩ := skB_le (tx := tx) hp
  have ht2 : ∀ k, k < n → tx k < 256 := by
    obtain ⟨f, t1, t2⟩ := ht
    exact fun k hk => (t2 k (by omega)).2
  have hEl := hE.2.1
  have hLA := hE.1
  have hlne : l ≠ o ∧ d ≠ o := by
    obtain ⟨mc, cap, f, l1, l2, -⟩ := hE.1
    constructor
    · intro z
      rw [z, show τ.1 o = some (.inr (3, _)) from h] at l1
      simp at l1
    · intro z
      rw [z, show τ.1 o = some (.inr (3, _)) from h] at l2
      cases l2
  unfold eX5_event pEv0
  rw [wt_ck_t (hcl_of h)]
  refine wp_ap (cword hf h ht hn hp) fun w2 ⟨a, g, b1, b2, b3, b4, b5, b6⟩ => ?_
  dsimp only
  generalize skB tx n p = q at hq1 hq2 b3 b4 b5 ⊢
  have hwd : WdR w2.2 w2.1 tx n q := ⟨a, g, 0, 0, b3, Or.inl ⟨rfl, rfl⟩, b4⟩
  have hf2 := b6.1 hf
  have hL2 := hL.keep b6 hf (NoL.obj h (by decide) NoL.nil)
  have hlo : o < τ.2 := hf o _ h
  have hos : o ≠ w2.1 := by omega
  rw [wt_ck_t (hcl_of b3.1)]
  refine wp_ap (cswitch' hwd ht2 (fun t hF e he => swE1_ok (hL2.keep hF hf2 (NoL.obj b3.1 (by decide) NoL.nil)) e he) swE_nd.1 swE1_i) fun w5 ⟨e1, e2, e3⟩ => ?_
  have F5 : Fr [o] τ w5.2 := b6.then e3 fun z hz => Or.inr (by
    have : z = w2.1 := by simpa using hz
    omega)
  have hf5 := F5.1 hf
  have R5 : RdR w5.2 o tp n q fr := e3.at hf2 b5 (by simpa using hos)
  refine wp_ap (x := sw w5.2 w2.1 w5.1 ((swE1 lit).map Prod.fst)) (P := fun j => j = kI (eKind (wd tx n q)) 5) ⟨_, e1, rfl⟩ fun w7 e7 => ?_
  subst e7
  by_cases c5 : eKind (wd tx n q) = 5
  · rw [c5, show kI 5 5 = (-1 : Int32) from rfl, if_neg (by decide), if_neg (by decide), if_neg (by decide), if_neg (by decide), if_neg (by decide), if_pos rfl, wp_bd, wt_ck_t (hcl_of R5)]
    refine wp_ap (cwrong R5 hf5) fun r ⟨r1, r2, r3, r4, r5⟩ => ?_
    rw [r1, wt_ck_t r3, wp_some, rs_r]
    exact ⟨_, rfl, rfl, r2, F5.then r4 fun z hz => by simp at hz⟩
  · have hlt : eKind (wd tx n q) < 5 ∧ (wd tx n q).length ≤ 6 := by
      rcases eK_cases (W := wd tx n q) with ⟨x, y⟩ | ⟨x, y⟩ | ⟨x, y⟩ | ⟨x, y⟩ | ⟨x, y⟩ | ⟨x, -⟩
      all_goals first
        | exact absurd x c5
        | (refine ⟨by omega, ?_⟩; rw [y]; decide)
    obtain ⟨hsk, hsn⟩ := wk_sk hq2 hlt.2
    have LA5 : LA w5.2 l d es := hLA.keep F5 hf (by simpa using hlne.1) (by simpa using hlne.2)
    rw [kE_chain hlt.1, wt_bd_s, rs_l, wt_ck_t LA5.cl, jsize LA5, wt_bd_s, if_neg c5, hEl]
    by_cases c20 : cs.length = 20
    · rw [if_pos (show nI cs.length = (20 : Int32) by rw [c20]; rfl), if_pos c20]
      exact cfault2 (k := 3) (j := 2) (pl := q) R5 hf5 rfl fun u k1 k2 k3 => ⟨rfl, k1, F5.then k2 fun z hz => by simp at hz⟩
    · have e2' := e2
      obtain ⟨a5, g5, h5, z5, s5, -, -⟩ := e2'
      have hk7 := wk_le (tx := tx) (n := n) (q := q)
      rw [if_neg (show ¬ nI cs.length = (20 : Int32) from fun z => c20 ((nI_eq (by omega) (by omega)).mp (z.trans (show (20 : Int32) = nI 20 from rfl)))), if_neg c20, hgI_of (cs := [3]) (k := 2) R5 rfl rfl, wt_bd_s, wt_ck_t (hcl_of s5.1), sg_len s5 (by omega), wt_bd_s]
      obtain ⟨t7, p1, R7, p3⟩ := rd_set (q' := skL tx n q) R5
      rw [nI_add, hsk, p1, wt_bd_s]
      have F7 : Fr [o] τ t7 := F5.trans p3
      have hf7 := F7.1 hf
      have S7 : StE τ o tp n t7 (skL tx n q) := ⟨⟨fr, R7⟩, F7, hsn⟩
      have R5' : w5.2.1 o = some (.inr (3, [.ref tp, .int (nI n), .int (nI q), .int fr])) := R5
      have W7 : WdR t7 w2.1 tx n q := e2.keep p3 hf5 (fun w hw => by
        have hwo : w = o := by simpa using hw
        rw [hwo]
        exact ⟨fun n' f hx => by rw [R5'] at hx; simp at hx, fun fs hx => by rw [R5'] at hx; simp at hx⟩)
      refine ce_num (lo := 0) (hi := 9) hf h ht cev_err S7 hn (by omega) (by omega) fun va pa u1 S1 G1 _ hva => ?_
      dsimp only
      obtain ⟨⟨fr1, R1⟩, F1, hpa⟩ := S1
      have hf1 := F1.1 hf
      have R7' : t7.1 o = some (.inr (3, [.ref tp, .int (nI n), .int (nI (skL tx n q)), .int fr])) := R7
      have W1 : WdR u1 w2.1 tx n q := W7.keep G1 hf7 (fun w hw => by
        have hwo : w = o := by simpa using hw
        rw [hwo]
        exact ⟨fun n' f hx => by rw [R7'] at hx; simp at hx, fun fs hx => by rw [R7'] at hx; simp at hx⟩)
      have W1' := W1
      obtain ⟨a7, g7, h7, z7, s7, -, -⟩ := W1'
      rw [wt_ck_t (hcl_of s7.1)]
      refine wp_ap (cswitch' W1 ht2 (fun t hF e he => swE2_ok ((hL.keep F1 hf (NoL.obj h (by decide) NoL.nil)).keep hF hf1 (NoL.obj s7.1 (by decide) NoL.nil)) e he) swE_nd.2 swE2_i) fun w8 ⟨i1, i2, i3⟩ => ?_
      have F8 : Fr [o] τ w8.2 := F1.then i3 fun z hz => Or.inr (by
        have : z = w2.1 := by simpa using hz
        omega)
      have R8 : RdR w8.2 o tp n pa fr1 := i3.at hf1 R1 (by simpa using hos)
      have S8 : StE τ o tp n w8.2 pa := ⟨⟨fr1, R8⟩, F8, hpa⟩
      refine wp_ap (x := sw w8.2 w2.1 w8.1 ((swE2 lit).map Prod.fst)) (P := fun j => j = ixE (eKind (wd tx n q))) ⟨_, i1, rfl⟩ fun w9 e9 => ?_
      subst e9
      rcases eK_cases (W := wd tx n q) with ⟨ka, -⟩ | ⟨ka, -⟩ | ⟨ka, -⟩ | ⟨ka, -⟩ | ⟨ka, -⟩ | ⟨ka, -⟩
      · rw [ka, show ixE 0 = (0 : Int32) from rfl, if_pos rfl, if_pos rfl]
        refine ce_num (lo := 0) (hi := 7) hf h ht cev_err S8 hn (by omega) (by omega) fun vb pb u2 S2 G2 _ hvb => ?_
        dsimp only
        exact cev_at (w := 0) (a := va) (b := vb) (cl := 5) (y := nI vb) hf h ht hL hE hev S2 hn cev_i5 fun hh => Or.inl ⟨rfl, rfl, rfl⟩
      · rw [ka, show ixE 1 = (1 : Int32) from rfl, if_neg (by decide), if_pos rfl, if_neg (by decide), if_neg (by decide), if_neg (by decide), pB_r]
        dsimp only
        exact cev_at (w := 1) (a := va) (b := 0) (cl := 5) (y := -1) hf h ht hL hE hev S8 hn cev_i5 fun hh => Or.inr (Or.inl ⟨rfl, rfl, rfl⟩)
      · rw [ka, show ixE 2 = (2 : Int32) from rfl, if_neg (by decide), if_neg (by decide), if_pos rfl, if_neg (by decide), if_pos rfl]
        refine ce_oth hf h ht cev_err S8 hn (by omega) fun vb pb u2 S2 G2 hvb => ?_
        dsimp only
        exact cev_at (w := 2) (a := va) (b := vb) (cl := 6) (y := nI vb) hf h ht hL hE hev S2 hn cev_i6 fun hh => Or.inr (Or.inr (Or.inl ⟨rfl, rfl, rfl⟩))
      · rw [ka, show ixE 3 = (3 : Int32) from rfl, if_neg (by decide), if_neg (by decide), if_neg (by decide), if_pos rfl, if_neg (by decide), if_neg (by decide), if_neg (by decide), pB_r]
        dsimp only
        exact cev_at (w := 3) (a := va) (b := 0) (cl := 7) (y := -1) hf h ht hL hE hev S8 hn cev_i7 fun hh => Or.inr (Or.inr (Or.inr (Or.inl ⟨rfl, rfl, rfl⟩)))
      · rw [ka, show ixE 4 = (-1 : Int32) from rfl, if_neg (by decide), if_neg (by decide), if_neg (by decide), if_neg (by decide), if_neg (by decide), if_neg (by decide), if_pos rfl]
        refine ce_num (lo := 0) (hi := 16) hf h ht cev_err S8 hn (by omega) (by omega) fun vb pb u2 S2 G2 _ hvb => ?_
        dsimp only
        exact cev_at (w := 4) (a := va) (b := vb) (cl := 7) (y := nI vb) hf h ht hL hE hev S2 hn cev_i7 fun hh => Or.inr (Or.inr (Or.inr (Or.inr ⟨rfl, rfl, rfl⟩)))
      · exact absurd ka c5
end CV
