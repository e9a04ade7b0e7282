/-! r47: the steps of a year on both sides -/
section R47
variable {tape text : Nat → Int32} {zs Wd R nr nc n ct dp : Nat} {names trn : Nat → Int64} {fr en k : Nat} {tk val fp fl v : Int32} {a op : Nat → Int32}
theorem yEncs_same2 {α : Type} {en en' : α → Nat → Nat → Prop} {K N : Nat} (hen : ∀ t k e, en t k e → k < e) (H : ∀ t k e, en t k e → K ≤ k → e ≤ N → en' t k e) : ∀ (cs : List α) (k e : Nat), yEncs en cs k e → K ≤ k → e ≤ N → yEncs en' cs k e
  | [], _, _, h, _, _ => h
  | t :: ts, k, e, h, hk, hle => by
    obtain ⟨k1, h1, h2⟩ := h
    have a2 := yEncs_le hen ts k1 e h2
    have a1 := hen t k k1 h1
    exact ⟨k1, H t k k1 h1 hk (by omega), yEncs_same2 hen H ts k1 e h2 (by omega) hle⟩
theorem yEnc_same2 {a' : Nat → Int32} {K N : Nat} (e : ∀ j, 44 + 6 * K ≤ j → j < 44 + 6 * N → a' j = a j) : ∀ (n : Nat) (t : yT n) (k e : Nat), yEnc a Wd R nr n t k e → K ≤ k → e ≤ N → yEnc a' Wd R nr n t k e
  | 0, t, k, _, h, hk, hle => ⟨h.1, yRow_same (fun j h1 h2 => e j (by omega) (by have := h.1; omega)) h.2⟩
  | n + 1, .inl t, k, _, h, hk, hle => ⟨h.1, yRow_same (fun j h1 h2 => e j (by omega) (by have := h.1; omega)) h.2⟩
  | n + 1, .inr (.inl w), k, _, h, hk, hle => by
    obtain ⟨c, he, r1, r2, r3, r4, r5, r6, r7⟩ := h
    have hkc := yEncs_le (yEnc_lt n) w.2 (k + 1) c r5
    refine ⟨c, he, ?_, ?_, r3, r4, yEncs_same2 (yEnc_lt n) (yEnc_same2 e n) w.2 (k + 1) c r5 (by omega) (by omega), ?_, ?_⟩
    · rw [e _ (by omega) (by omega)]; exact r1
    · rw [e _ (by omega) (by omega)]; exact r2
    · rw [e _ (by omega) (by omega)]; exact r6
    · rw [e _ (by omega) (by omega)]; exact r7
  | n + 1, .inr (.inr w), k, _, h, hk, hle => by
    obtain ⟨c, he, r1, r2, r5, r6, r7⟩ := h
    have hkc := yEncs_le (yEnc_lt n) w.2 (k + 1) c r5
    refine ⟨c, he, yTst_same (fun j h1 h2 => e j (by omega) (by omega)) r1, ?_, yEncs_same2 (yEnc_lt n) (yEnc_same2 e n) w.2 (k + 1) c r5 (by omega) (by omega), ?_, ?_⟩
    · rw [e _ (by omega) (by omega)]; exact r2
    · rw [e _ (by omega) (by omega)]; exact r6
    · rw [e _ (by omega) (by omega)]; exact r7
theorem yTst_4 {a' : Nat → Int32} {w : Int32 × Int32 × Int32} (e0 : a' (44 + 6 * k) = a (44 + 6 * k)) (e1 : a' (44 + 6 * k + 1) = a (44 + 6 * k + 1)) (e2 : a' (44 + 6 * k + 2) = a (44 + 6 * k + 2)) (e5 : a' (44 + 6 * k + 5) = a (44 + 6 * k + 5)) (h : yTst a Wd R k w) : yTst a' Wd R k w := by
  unfold yTst
  rw [e0, e1, e2, e5]
  exact h
/-- how the model's step fails -/
def yMf (kind : Int32) (μ : yM11) : yM11 := ((mf_fails μ.2.1 μ.2.2.1 μ.2.2.2.2.2.1 μ.2.2.2.2.2.2.1 kind).1, μ.2.1, μ.2.2.1, μ.2.2.2.1, μ.2.2.2.2.1, (mf_fails μ.2.1 μ.2.2.1 μ.2.2.2.2.2.1 μ.2.2.2.2.2.2.1 kind).2.1, (mf_fails μ.2.1 μ.2.2.1 μ.2.2.2.2.2.1 μ.2.2.2.2.2.2.1 kind).2.2, μ.2.2.2.2.2.2.2.1, μ.2.2.2.2.2.2.2.2.1, μ.2.2.2.2.2.2.2.2.2.1, μ.2.2.2.2.2.2.2.2.2.2)
theorem ms_6h {μ : yM11} (h1 : mf_inWords zs μ.2.1 μ.2.2.1 μ.2.2.2.1 text = 15 ∨ mf_inWords zs μ.2.1 μ.2.2.1 μ.2.2.2.1 text = 16) (hct : μ.2.2.2.2.2.2.2.2.1 = 30) : yMs zs text names Wd R nr μ = yMf 6 μ := by
  unfold yMs mf_yearStep
  rw [zl (mf_inWords zs μ.2.1 μ.2.2.1 μ.2.2.2.1 text)]
  rcases h1 with h | h
  · rw [h, if_pos (show (15 : Int32) = 15 from rfl), if_pos hct]; rfl
  · rw [h, if_neg (show ¬ (16 : Int32) = 15 by decide), if_pos (show (16 : Int32) = 16 from rfl), if_pos hct]; rfl
theorem ms_7 {μ : yM11} (h1 : mf_inWords zs μ.2.1 μ.2.2.1 μ.2.2.2.1 text = 15 ∨ mf_inWords zs μ.2.1 μ.2.2.1 μ.2.2.2.1 text = 16) (hct : ¬ μ.2.2.2.2.2.2.2.2.1 = 30) (hdp : μ.2.2.2.2.2.2.2.1 = 3) : yMs zs text names Wd R nr μ = yMf 7 μ := by
  unfold yMs mf_yearStep
  rw [zl (mf_inWords zs μ.2.1 μ.2.2.1 μ.2.2.2.1 text)]
  rcases h1 with h | h
  · rw [h, if_pos (show (15 : Int32) = 15 from rfl), if_neg hct, if_pos hdp]; rfl
  · rw [h, if_neg (show ¬ (16 : Int32) = 15 by decide), if_pos (show (16 : Int32) = 16 from rfl), if_neg hct, if_pos hdp]; rfl
theorem ms_6 {μ : yM11} {i : Nat} (hi : i < 7) (hv : mf_inWords zs μ.2.1 μ.2.2.1 μ.2.2.2.1 text = nI (xWo i)) (hct : μ.2.2.2.2.2.2.2.2.1 = 30) : yMs zs text names Wd R nr μ = yMf 6 μ := by
  have hvr : ∀ j, j < 7 → ¬ nI (xWo j) = 15 ∧ ¬ nI (xWo j) = 16 ∧ ¬ nI (xWo j) < 9 ∧ ¬ 18 < nI (xWo j) ∧ ¬ nI (xWo j) = 17 := by decide
  obtain ⟨v15, v16, v9, v18, v17⟩ := hvr i hi
  unfold yMs mf_yearStep
  rw [zl (mf_inWords zs μ.2.1 μ.2.2.1 μ.2.2.2.1 text), hv, if_neg v15, if_neg v16, if_neg v9, if_neg v18, if_neg v17, if_pos hct]
  rfl
theorem ms_2 {μ : yM11} (h15 : ¬ mf_inWords zs μ.2.1 μ.2.2.1 μ.2.2.2.1 text = 15) (h16 : ¬ mf_inWords zs μ.2.1 μ.2.2.1 μ.2.2.2.1 text = 16) (h : mf_inWords zs μ.2.1 μ.2.2.1 μ.2.2.2.1 text < 9 ∨ 18 < mf_inWords zs μ.2.1 μ.2.2.1 μ.2.2.2.1 text ∨ (mf_inWords zs μ.2.1 μ.2.2.1 μ.2.2.2.1 text = 17 ∧ μ.2.2.2.2.2.2.2.1 = 0)) : yMs zs text names Wd R nr μ = yMf 2 μ := by
  unfold yMs mf_yearStep
  rw [zl (mf_inWords zs μ.2.1 μ.2.2.1 μ.2.2.2.1 text)]
  generalize mf_inWords zs μ.2.1 μ.2.2.1 μ.2.2.2.1 text = v at h15 h16 h ⊢
  rw [if_neg h15, if_neg h16]
  by_cases c : v < 9
  · rw [if_pos c]; rfl
  · rw [if_neg c]
    by_cases c2 : 18 < v
    · rw [if_pos c2]; rfl
    · rw [if_neg c2]
      rcases h with h | h | ⟨h, hd⟩
      · exact absurd h c
      · exact absurd h c2
      · rw [if_pos h, if_pos hd]; rfl
theorem yMf_fa {ρ ρ' : yR} {μ : yM11} {kind : Int32} (hs : pYs tape zs ρ μ n) (h1 : ¬ μ.2.1 = 1) (hk : 0 < kind) (e1 : ρ'.2.2.2.2.2.1 = kind) (e2 : ρ'.2.2.2.2.2.2 = nI ρ.1) : yFa ρ' (yMf kind μ) := by
  have e3 := hs.2.1.1
  have e4 := hs.2.2.1
  dsimp only at e3
  unfold yMf yFa
  dsimp only
  rw [e4, fails_k h1]
  exact ⟨rfl, e1, by rw [e2, e3], hk⟩
theorem yMf_wr {ρ : yR} {μ : yM11} (hs : pYs tape zs ρ μ n) : yFa (yWr ρ) (yMf 2 μ) ∧ (yWr ρ).2.2.2.2.2.1 = (mf_fails μ.2.1 μ.2.2.1 μ.2.2.2.2.2.1 0 2).2.2 ∧ (yWr ρ).2.2.2.2.2.2 = (mf_fails μ.2.1 μ.2.2.1 μ.2.2.2.2.2.1 0 2).2.1 ∧ 0 < (mf_fails μ.2.1 μ.2.2.1 μ.2.2.2.2.2.1 0 2).2.2 := by
  obtain ⟨w1, w2, w3, w4⟩ := wrong_eq (fp := μ.2.2.2.2.2.1) hs.2.1
  have e4 := hs.2.2.1
  refine ⟨?_, w1, w2, w3⟩
  unfold yMf yFa
  dsimp only
  rw [e4]
  exact ⟨w4, w1, w2, w3⟩
/-- what a token is, on both sides -/
theorem tok_y {ρ : yR} {μ : yM11} (h : pTx tape text zs) (h9 : zs ≤ 900) (hk : pTk tape zs (ρ.1, ρ.2.1, ρ.2.2.1, ρ.2.2.2.1) (μ.2.1, μ.2.2.1, μ.2.2.2.1, μ.2.2.2.2.1)) : (∃ w : Bool, yIb (yX zs Wd R nr nc tape trn) ρ = true ∧ yWd (yX zs Wd R nr nc tape trn) ρ 19 = w ∧ mf_inWords zs μ.2.1 μ.2.2.1 μ.2.2.2.1 text = (if w = true then 15 else 16) ∧ μ.2.1 = 2) ∨ (¬ yIb (yX zs Wd R nr nc tape trn) ρ = true ∧ ∃ i, i < 7 ∧ rf_acts ρ.1 ρ.2.1 ρ.2.2.1 tape = nI i ∧ mf_inWords zs μ.2.1 μ.2.2.1 μ.2.2.2.1 text = nI (xWo i) ∧ μ.2.1 = 2) ∨ (¬ yIb (yX zs Wd R nr nc tape trn) ρ = true ∧ rf_acts ρ.1 ρ.2.1 ρ.2.2.1 tape = -1 ∧ ¬ mf_inWords zs μ.2.1 μ.2.2.1 μ.2.2.2.1 text = 15 ∧ ¬ mf_inWords zs μ.2.1 μ.2.2.1 μ.2.2.2.1 text = 16 ∧ (mf_inWords zs μ.2.1 μ.2.2.1 μ.2.2.2.1 text < 9 ∨ 18 < mf_inWords zs μ.2.1 μ.2.2.1 μ.2.2.2.1 text ∨ (mf_inWords zs μ.2.1 μ.2.2.1 μ.2.2.2.1 text = 17 ∧ rf_isWord ρ.1 ρ.2.1 ρ.2.2.1 tape 21 = true))) := by
  have i19 := word_iff h h9 hk (wi := 19) (by omega)
  have i20 := word_iff h h9 hk (wi := 20) (by omega)
  have i21 := word_iff h h9 hk (wi := 21) (by omega)
  dsimp only at i19 i20 i21
  rw [show nI (xWo 19) = (15 : Int32) from rfl] at i19
  rw [show nI (xWo 20) = (16 : Int32) from rfl] at i20
  rw [show nI (xWo 21) = (17 : Int32) from rfl] at i21
  have e19 : yWd (yX zs Wd R nr nc tape trn) ρ 19 = rf_isWord ρ.1 ρ.2.1 ρ.2.2.1 tape 19 := rfl
  have e20 : yWd (yX zs Wd R nr nc tape trn) ρ 20 = rf_isWord ρ.1 ρ.2.1 ρ.2.2.1 tape 20 := rfl
  have two : ¬ mf_inWords zs μ.2.1 μ.2.2.1 μ.2.2.2.1 text = -1 → μ.2.1 = 2 := by
    intro q
    apply Classical.byContradiction
    intro z
    apply q
    unfold mf_inWords
    rw [if_neg z]
  unfold yIb
  rw [e19, e20]
  by_cases c1 : rf_isWord ρ.1 ρ.2.1 ρ.2.2.1 tape 19 = true
  · refine Or.inl ⟨true, by rw [if_pos c1], c1, i19.mp c1, two (by rw [i19.mp c1]; decide)⟩
  · rw [if_neg c1]
    have c1' : rf_isWord ρ.1 ρ.2.1 ρ.2.2.1 tape 19 = false := by
      cases hb : rf_isWord ρ.1 ρ.2.1 ρ.2.2.1 tape 19
      · rfl
      · exact absurd hb c1
    by_cases c2 : rf_isWord ρ.1 ρ.2.1 ρ.2.2.1 tape 20 = true
    · exact Or.inl ⟨false, c2, c1', i20.mp c2, two (by rw [i20.mp c2]; decide)⟩
    · have n15 : ¬ mf_inWords zs μ.2.1 μ.2.2.1 μ.2.2.2.1 text = 15 := fun q => c1 (i19.mpr q)
      have n16 : ¬ mf_inWords zs μ.2.1 μ.2.2.1 μ.2.2.2.1 text = 16 := fun q => c2 (i20.mpr q)
      have ha := acts_v h h9 hk
      dsimp only at ha
      rcases ha with ⟨i, i7, a1, a2⟩ | ⟨a1, a2⟩
      · have hv : ∀ j, j < 7 → ¬ nI (xWo j) = -1 := by decide
        exact Or.inr (Or.inl ⟨c2, i, i7, a1, a2, two (by rw [a2]; exact hv i i7)⟩)
      · refine Or.inr (Or.inr ⟨c2, a1, n15, n16, ?_⟩)
        have hr := inW_rng (text := text) h9 hk
        dsimp only at hr
        rcases hr with e | ⟨w, w1, e⟩
        · rw [e]; exact Or.inl (by decide)
        · have hw : w < 9 ∨ 18 < w ∨ w = 17 ∨ w = 15 ∨ w = 16 ∨ ∃ j, j < 7 ∧ xWo j = w := by
            have key : ∀ w, w < 22 → w < 9 ∨ 18 < w ∨ w = 17 ∨ w = 15 ∨ w = 16 ∨ ∃ j, j < 7 ∧ xWo j = w := by decide
            exact key w w1
          rcases hw with q | q | q | q | q | ⟨j, j7, q⟩
          · rw [e]; exact Or.inl (nI_lt (b := 9) q (by decide))
          · rw [e]; exact Or.inr (Or.inl (nI_lt (a := 18) q (by omega)))
          · exact Or.inr (Or.inr ⟨by rw [e, q]; rfl, i21.mpr (by rw [e, q]; rfl)⟩)
          · exact absurd (by rw [e, q]; rfl) n15
          · exact absurd (by rw [e, q]; rfl) n16
          · exact absurd (by rw [e, q]) (a2 j j7)
/-- the model failed as the system did, or stopped within a block where the system failed -/
def yFl (ρ : yR) (μ : yM11) : Prop := yFa ρ μ ∨ (μ.1 = true ∧ μ.2.1 = 0 ∧ μ.2.2.2.2.2.2.1 = 0 ∧ 0 < μ.2.2.2.2.2.2.2.1 ∧ ρ.2.2.2.2.2.1 = (mf_fails μ.2.1 μ.2.2.1 μ.2.2.2.2.2.1 0 2).2.2 ∧ ρ.2.2.2.2.2.2 = (mf_fails μ.2.1 μ.2.2.1 μ.2.2.2.2.2.1 0 2).2.1 ∧ 0 < (mf_fails μ.2.1 μ.2.2.1 μ.2.2.2.2.2.1 0 2).2.2)
variable {t1 : Bool × Int32 × Nat × Int32 × Nat × Nat × Int32 × Int32 × Int32 × Int32 × (Nat → Int32)}
theorem yB_go {μ : yM11} (hz1 : t1.2.2.1 = zs) (hx1 : t1.2.2.2.2.2.2.2.2.2.2 = text) (h1 : μ.1 = true) (h0 : ¬ μ.2.1 = 0) : mf_year_B38 names Wd R nr t1 μ = .inl (yMs zs text names Wd R nr μ) := by
  unfold mf_year_B38 yMs
  rw [if_pos h1, if_neg h0, hz1, hx1]
  rfl
theorem yB_end {μ : yM11} (h1 : μ.1 = true) (h0 : μ.2.1 = 0) : mf_year_B38 names Wd R nr t1 μ = .inr μ := by
  unfold mf_year_B38
  rw [if_pos h1, if_pos h0]
theorem yB_bad {μ : yM11} (h1 : μ.1 = false) : mf_year_B38 names Wd R nr t1 μ = .inr μ := by
  unfold mf_year_B38
  rw [if_neg (show ¬ μ.1 = true by rw [h1]; decide)]
theorem zw_bad {d : yM11} {f : Nat} {μ : yM11} (hz1 : t1.2.2.1 = zs) (hx1 : t1.2.2.2.2.2.2.2.2.2.2 = text) (h1 : μ.1 = true) (h0 : ¬ μ.2.1 = 0) (hf : 1 < f) (hb : (yMs zs text names Wd R nr μ).1 = false) : zw (mf_year_B38 names Wd R nr t1) d f μ = yMs zs text names Wd R nr μ := by
  obtain ⟨f, rfl⟩ : ∃ z, f = z + 1 + 1 := ⟨f - 2, by omega⟩
  rw [zw_l (yB_go hz1 hx1 h1 h0), zw_r (yB_bad hb)]
/-- a step that is no block -/
theorem stp_no {β : Type} (mkA : Int32 × Nat → β) (blk : Bool → yR → yR × Option β) (deep : Bool) {ρ : yR} {μ : yM11} (h : pTx tape text zs) (h9 : zs ≤ 900) (hW0 : 1 ≤ Wd) (hW : Wd ≤ 5) (hR0 : 1 ≤ R) (hR : R ≤ 6) (h4 : nr ≤ 4) (hnm : ∀ k, k < nr → pNm (trn k) (names k)) (hs : pYs tape zs ρ μ n) (hb : ¬ yIb (yX zs Wd R nr nc tape trn) ρ = true) (he : 0 < μ.2.2.2.2.2.2.2.1 → ¬ rf_isWord ρ.1 ρ.2.1 ρ.2.2.1 tape 21 = true) (h0 : μ.2.1 = 0 → 0 < μ.2.2.2.2.2.2.2.1) : (∃ (ρ' : yR) (t : Int32 × Nat), yStp (yX zs Wd R nr nc tape trn) mkA blk deep ρ = (ρ', some (mkA t)) ∧ ¬ μ.2.1 = 0 ∧ pYs tape zs ρ' (yMs zs text names Wd R nr μ) (n + 1) ∧ μ.2.2.2.1 < (yMs zs text names Wd R nr μ).2.2.1 ∧ (yMs zs text names Wd R nr μ).2.2.2.2.2.2.2.1 = μ.2.2.2.2.2.2.2.1 ∧ (yMs zs text names Wd R nr μ).2.2.2.2.2.2.2.2.2.2 = μ.2.2.2.2.2.2.2.2.2.2 ∧ (∀ k, k < 1684 + 6 * n → ¬ k = 1651 → (yMs zs text names Wd R nr μ).2.2.2.2.2.2.2.2.2.1 k = μ.2.2.2.2.2.2.2.2.2.1 k) ∧ yRow (fun j => (yMs zs text names Wd R nr μ).2.2.2.2.2.2.2.2.2.1 (1640 + j)) Wd R nr n t) ∨ (∃ ρ', yStp (yX zs Wd R nr nc tape trn) mkA blk deep ρ = (ρ', none) ∧ ((¬ μ.2.1 = 0 ∧ yFa ρ' (yMs zs text names Wd R nr μ)) ∨ (μ.2.1 = 0 ∧ yFl ρ' μ))) := by
  have hab : yAc (yX zs Wd R nr nc tape trn) ρ = rf_acts ρ.1 ρ.2.1 ρ.2.2.1 tape := rfl
  have hst := hs.2.2.2.1
  unfold yStp
  rw [hab]
  rcases tok_y (Wd := Wd) (R := R) (nr := nr) (nc := nc) (trn := trn) h h9 hs.2.1 with ⟨w, b1, -⟩ | ⟨-, i, i7, a1, a2, a3⟩ | ⟨-, a1, n15, n16, a2⟩
  · exact absurd b1 hb
  · have hn0 : ¬ μ.2.1 = 0 := by rw [a3]; decide
    rw [a1, if_neg (fun q => q.1 (Int32.not_lt.mp (nI_pos (by omega))))]
    by_cases c : μ.2.2.2.2.2.2.2.2.1 = 30
    · rw [if_pos (hst.trans c)]
      refine Or.inr ⟨_, rfl, Or.inl ⟨hn0, ?_⟩⟩
      rw [ms_6 i7 a2 c]
      exact yMf_fa hs (by rw [a3]; decide) (by decide) rfl rfl
    · rw [if_neg (fun q => c (hst.symm.trans q)), if_neg (fun q => hb q.1)]
      have eB : yBod (yX zs Wd R nr nc tape trn) mkA blk ρ = zlet (yPl (yX zs Wd R nr nc tape trn) (yS1 ρ)) (fun r => (r.1, r.2.map mkA)) := by
        unfold yBod
        rw [if_neg hb]
      rw [eB]
      rcases act_eq (nc := nc) mkA h h9 hW0 hW hR0 hR h4 hnm hs i7 a1 a2 c with ⟨ρ', t, e1, e2, e3, e4, e5, e6, e7⟩ | ⟨ρ', e1, e2⟩
      · exact Or.inl ⟨ρ', t, e1, hn0, e2, e3, e4, e5, e6, e7⟩
      · exact Or.inr ⟨ρ', e1, Or.inl ⟨hn0, e2⟩⟩
  · rw [a1, if_pos ⟨by decide, hb⟩]
    obtain ⟨w1, w2, w3, w4⟩ := yMf_wr hs
    by_cases c : μ.2.1 = 0
    · exact Or.inr ⟨_, rfl, Or.inr ⟨c, Or.inr ⟨hs.1, c, hs.2.2.1, h0 c, w2, w3, w4⟩⟩⟩
    · refine Or.inr ⟨_, rfl, Or.inl ⟨c, ?_⟩⟩
      have hm : mf_inWords zs μ.2.1 μ.2.2.1 μ.2.2.2.1 text < 9 ∨ 18 < mf_inWords zs μ.2.1 μ.2.2.1 μ.2.2.2.1 text ∨ (mf_inWords zs μ.2.1 μ.2.2.1 μ.2.2.2.1 text = 17 ∧ μ.2.2.2.2.2.2.2.1 = 0) := by
        rcases a2 with q | q | ⟨q1, q2⟩
        · exact Or.inl q
        · exact Or.inr (Or.inl q)
        · refine Or.inr (Or.inr ⟨q1, ?_⟩)
          apply Classical.byContradiction
          intro z
          exact he (by omega) q2
      rw [ms_2 n15 n16 hm]
      exact w1
/-- a block that is refused -/
theorem stp_bad {β : Type} (mkA : Int32 × Nat → β) (blk : Bool → yR → yR × Option β) (deep : Bool) {ρ : yR} {μ : yM11} {w : Bool} (hs : pYs tape zs ρ μ n) (hb : yIb (yX zs Wd R nr nc tape trn) ρ = true) (hv : mf_inWords zs μ.2.1 μ.2.2.1 μ.2.2.2.1 text = (if w = true then 15 else 16)) (h2 : μ.2.1 = 2) (hbad : μ.2.2.2.2.2.2.2.2.1 = 30 ∨ (deep = true ∧ μ.2.2.2.2.2.2.2.1 = 3)) : ∃ ρ', yStp (yX zs Wd R nr nc tape trn) mkA blk deep ρ = (ρ', none) ∧ yFa ρ' (yMs zs text names Wd R nr μ) := by
  have hst := hs.2.2.2.1
  have hv' : mf_inWords zs μ.2.1 μ.2.2.1 μ.2.2.2.1 text = 15 ∨ mf_inWords zs μ.2.1 μ.2.2.1 μ.2.2.2.1 text = 16 := by
    rw [hv]
    cases w
    · exact Or.inr rfl
    · exact Or.inl rfl
  unfold yStp
  rw [if_neg (fun q => q.2 hb)]
  by_cases c : μ.2.2.2.2.2.2.2.2.1 = 30
  · rw [if_pos (hst.trans c)]
    refine ⟨_, rfl, ?_⟩
    rw [ms_6h hv' c]
    exact yMf_fa hs (by rw [h2]; decide) (by decide) rfl rfl
  · obtain ⟨d1, d2⟩ := hbad.resolve_left c
    rw [if_neg (fun q => c (hst.symm.trans q)), if_pos ⟨hb, d1⟩]
    refine ⟨_, rfl, ?_⟩
    rw [ms_7 hv' c d2]
    exact yMf_fa hs (by rw [h2]; decide) (by decide) rfl rfl
end R47
