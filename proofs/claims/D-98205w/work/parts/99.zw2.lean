/-! r27: words on both sides -/
section R27
variable {tape text : Nat → Int32} {zs fr en : Nat}
def mPo (w : Nat) : Nat := [1, 6, 10, 15, 23, 28, 33, 39, 45, 48, 54, 59, 65, 71, 77, 83, 88, 93, 97, 102, 106, 111, 116].getD w 0
def mLe (w : Nat) : Nat := [4, 3, 4, 7, 4, 4, 5, 5, 2, 5, 4, 5, 5, 5, 5, 4, 4, 3, 4, 3, 4, 4].getD w 0
/-- x's word, by the model's count -/
def xWo (i : Nat) : Nat := [9, 10, 11, 12, 13, 14, 18, 19, 20, 21, 0, 4, 1, 2, 5, 6, 3, 7, 8, 15, 16, 17].getD i 0
theorem w_end : ∀ w, w < 22 → mf_inWords_L25 (mPo w, w) (mPo w) = mPo w + mLe w ∧ mPo w + mLe w + 1 = mPo (w + 1) ∧ mPo w < 116 ∧ mLe w ≤ 7 := by decide +kernel
theorem w_x : ∀ i, i < 22 → xWo i < 22 ∧ zLen.getD i 0 = mLe (xWo i) ∧ ∀ j, j < mLe (xWo i) → zch i j = zch 22 (mPo (xWo i) + j) := by decide +kernel
theorem w_sur : ∀ w, w < 22 → ∃ i, i < 22 ∧ xWo i = w := by decide +kernel
theorem w_ne : ∀ w, w < 22 → ∀ v, v < 22 → w = v ∨ ¬ mLe w = mLe v ∨ ∃ j, j < mLe w ∧ ¬ zch 22 (mPo w + j) = zch 22 (mPo v + j) := by decide +kernel
/-- the token is the model's word w -/
def Mt (zs : Nat) (text : Nat → Int32) (fr en w : Nat) : Prop := en - fr = mLe w ∧ ∀ i, i < mLe w → zch 22 (mPo w + i) = mf_byteAt zs text (fr + i)
theorem Mt_uniq {w v : Nat} (hw : w < 22) (hv : v < 22) (h1 : Mt zs text fr en w) (h2 : Mt zs text fr en v) : w = v := by
  rcases w_ne w hw v hv with h | h | ⟨j, hj, h⟩
  · exact h
  · exact absurd (h1.1.symm.trans h2.1) h
  · exact absurd ((h1.2 j hj).trans (h2.2 j (by rw [← h2.1, h1.1]; exact hj)).symm) h
theorem l68 (p w e : Nat) (d : Nat × Bool) : ∀ n k, e - k < n → p ≤ k → ((zw (mf_inWords_B68 zs fr text (p, w) e) d n (k, true)).2 = true ↔ ∀ i, k ≤ i → i < e → zch 22 i = mf_byteAt zs text ((fr + i) - p)) := by
  intro n
  induction n with
  | zero => exact fun k hn => absurd hn (Nat.not_lt_zero _)
  | succ n ih =>
    intro k hn hp
    by_cases c : e ≤ k
    · rw [zw_r (show mf_inWords_B68 zs fr text (p, w) e (k, true) = .inr (k, true) by unfold mf_inWords_B68; rw [if_pos c])]
      exact ⟨fun _ i h1 h2 => by omega, fun _ => rfl⟩
    · by_cases g : zch 22 k = mf_byteAt zs text ((fr + k) - p)
      · rw [zw_l (show mf_inWords_B68 zs fr text (p, w) e (k, true) = .inl (k + 1, true) by unfold mf_inWords_B68; rw [if_neg c, if_pos rfl, if_pos g]), ih (k + 1) (by omega) (by omega)]
        constructor
        · intro h i h1 h2
          by_cases q : i = k
          · subst q; exact g
          · exact h i (by omega) h2
        · exact fun h i h1 h2 => h i (by omega) h2
      · have hf : ∀ n k', (zw (mf_inWords_B68 zs fr text (p, w) e) d (n + 1) (k', false)).2 = false := by
          intro n k'
          by_cases c2 : e ≤ k'
          · rw [zw_r (show mf_inWords_B68 zs fr text (p, w) e (k', false) = .inr (k', false) by unfold mf_inWords_B68; rw [if_pos c2])]
          · rw [zw_r (show mf_inWords_B68 zs fr text (p, w) e (k', false) = .inr (k', false) by unfold mf_inWords_B68; dsimp only; rw [if_neg c2, if_neg (by decide)])]
        rw [zw_l (show mf_inWords_B68 zs fr text (p, w) e (k, true) = .inl (k + 1, false) by unfold mf_inWords_B68; rw [if_neg c, if_pos rfl, if_neg g])]
        obtain ⟨n', rfl⟩ : ∃ n', n = n' + 1 := ⟨n - 1, by omega⟩
        rw [hf n' (k + 1)]
        exact ⟨fun q => (by cases q), fun h => absurd (h k (Nat.le_refl _) (by omega)) g⟩
theorem b14 (h9 : en ≤ 900) (hfe : fr ≤ en) {w : Nat} (hw : w < 22) : (Mt zs text fr en w → mf_inWords_B14 zs fr en text (mPo w, w) = .inr (.inr (nI w))) ∧ (¬ Mt zs text fr en w → mf_inWords_B14 zs fr en text (mPo w, w) = .inl (mPo (w + 1), w + 1)) := by
  obtain ⟨e1, e2, e3, e4⟩ := w_end w hw
  have hl : (mf_inWords_L68 zs fr text (mPo w, w) (mPo w + mLe w) (mPo w, true)).2 = true ↔ ∀ i, i < mLe w → zch 22 (mPo w + i) = mf_byteAt zs text (fr + i) := by
    refine (l68 (zs := zs) (text := text) (fr := fr) (mPo w) w (mPo w + mLe w) (mPo w, true) ((mPo w + mLe w - mPo w) + 1) (mPo w) (Nat.lt_succ_self _) (Nat.le_refl _)).trans ?_
    constructor
    · intro h i hi
      have := h (mPo w + i) (by omega) (by omega)
      rw [show fr + (mPo w + i) - mPo w = fr + i by omega] at this
      exact this
    · intro h i h1 h2
      have := h (i - mPo w) (by omega)
      rw [show mPo w + (i - mPo w) = i by omega] at this
      rw [this, show fr + (i - mPo w) = fr + i - mPo w by omega]
  have hq : (nI (mPo w + mLe w - mPo w) = nI en - nI fr) ↔ en - fr = mLe w := by
    rw [pk_sub hfe, nI_eq (by omega) (by omega)]
    constructor <;> intro q <;> omega
  unfold mf_inWords_B14 zlet
  dsimp only
  rw [if_neg (show ¬ 116 ≤ mPo w by omega), e1]
  constructor
  · intro hm
    rw [if_pos (hq.mpr hm.1), if_pos (hl.mpr hm.2)]
  · intro hm
    by_cases c : nI (mPo w + mLe w - mPo w) = nI en - nI fr
    · rw [if_pos c, if_neg (fun q => hm ⟨hq.mp c, hl.mp q⟩), e2]
    · rw [if_neg c, e2]
theorem l14 (h9 : en ≤ 900) (hfe : fr ≤ en) (d : (Nat × Nat) ⊕ Int32) : ∀ n w, w + n = 22 → ∀ f, n < f → (∃ v, w ≤ v ∧ v < 22 ∧ Mt zs text fr en v ∧ zw (mf_inWords_B14 zs fr en text) d f (mPo w, w) = .inr (nI v)) ∨ ((∀ v, w ≤ v → v < 22 → ¬ Mt zs text fr en v) ∧ zw (mf_inWords_B14 zs fr en text) d f (mPo w, w) = .inl (mPo 22, 22)) := by
  intro n
  induction n with
  | zero =>
    intro w hw f hf
    obtain ⟨f', rfl⟩ : ∃ f', f = f' + 1 := ⟨f - 1, by omega⟩
    have : w = 22 := by omega
    subst this
    refine Or.inr ⟨fun v h1 h2 => by omega, zw_r ?_⟩
    unfold mf_inWords_B14
    rw [if_pos (by decide)]
  | succ n ih =>
    intro w hw f hf
    obtain ⟨f', rfl⟩ : ∃ f', f = f' + 1 := ⟨f - 1, by omega⟩
    obtain ⟨b1, b2⟩ := b14 (zs := zs) (text := text) h9 hfe (show w < 22 by omega)
    by_cases c : Mt zs text fr en w
    · exact Or.inl ⟨w, Nat.le_refl _, by omega, c, zw_r (b1 c)⟩
    · rw [zw_l (b2 c)]
      rcases ih (w + 1) (by omega) f' (by omega) with ⟨v, v1, v2, v3, v4⟩ | ⟨v1, v2⟩
      · exact Or.inl ⟨v, by omega, v2, v3, v4⟩
      · refine Or.inr ⟨fun v h1 h2 => ?_, v2⟩
        by_cases q : v = w
        · subst q; exact c
        · exact v1 v (by omega) h2
theorem inW (h9 : en ≤ 900) (hfe : fr ≤ en) : (∃ v, v < 22 ∧ Mt zs text fr en v ∧ mf_inWords zs 2 fr en text = nI v) ∨ ((∀ v, v < 22 → ¬ Mt zs text fr en v) ∧ mf_inWords zs 2 fr en text = -1) := by
  unfold mf_inWords
  rw [if_pos rfl]
  rcases l14 (zs := zs) (text := text) h9 hfe (.inl (1, 0)) 22 0 (by omega) ((116 - 1) + 1) (by omega) with ⟨v, v1, v2, v3, v4⟩ | ⟨v1, v2⟩
  · refine Or.inl ⟨v, v2, v3, ?_⟩
    rw [show mf_inWords_L14 zs fr en text (1, 0) = .inr (nI v) from v4]
    rfl
  · refine Or.inr ⟨fun v h => v1 v (Nat.zero_le _) h, ?_⟩
    rw [show mf_inWords_L14 zs fr en text (1, 0) = .inl (mPo 22, 22) from v2]
    rfl
theorem inW_iff (h9 : en ≤ 900) (hfe : fr ≤ en) {w : Nat} (hw : w < 22) : mf_inWords zs 2 fr en text = nI w ↔ Mt zs text fr en w := by
  rcases inW (zs := zs) (text := text) h9 hfe with ⟨v, v1, v2, v3⟩ | ⟨v1, v2⟩
  · rw [v3]
    constructor
    · intro q
      rw [← (nI_eq (by omega) (by omega)).mp q]
      exact v2
    · intro q; rw [Mt_uniq v1 hw v2 q]
  · rw [v2]
    exact ⟨fun q => absurd (show nI w < 0 by rw [← q]; decide) (nI_pos (by omega)), fun q => absurd q (v1 w hw)⟩
theorem isW (ra rb wi : Nat) : rf_isWord ra rb 1 tape wi = true ↔ rb - ra = zLen.getD wi 0 ∧ ∀ i, i < zLen.getD wi 0 → tape (ra + i) = zch wi i := by
  have key : ∀ (d : Nat ⊕ Bool) n k, zLen.getD wi 0 - k < n → (zcase (zw (rf_isWord_B28 ra tape wi) d n k) (fun _ => true) (fun r => r) = true ↔ ∀ i, k ≤ i → i < zLen.getD wi 0 → tape (ra + i) = zch wi i) := by
    intro d n
    induction n with
    | zero => exact fun k hn => absurd hn (Nat.not_lt_zero _)
    | succ n ih =>
      intro k hn
      by_cases c : zLen.getD wi 0 ≤ k
      · rw [zw_r (show rf_isWord_B28 ra tape wi k = .inr (.inl k) by unfold rf_isWord_B28; rw [if_pos c])]
        exact ⟨fun _ i h1 h2 => by omega, fun _ => rfl⟩
      · by_cases g : tape (ra + k) = zch wi k
        · rw [zw_l (show rf_isWord_B28 ra tape wi k = .inl (k + 1) by unfold rf_isWord_B28; rw [if_neg c, if_pos g]), ih (k + 1) (by omega)]
          constructor
          · intro h i h1 h2
            by_cases q : i = k
            · subst q; exact g
            · exact h i (by omega) h2
          · exact fun h i h1 h2 => h i (by omega) h2
        · rw [zw_r (show rf_isWord_B28 ra tape wi k = .inr (.inr false) by unfold rf_isWord_B28; rw [if_neg c, if_neg g])]
          exact ⟨fun q => (by cases q), fun h => absurd (h k (Nat.le_refl _) (by omega)) g⟩
  unfold rf_isWord
  rw [if_pos rfl]
  by_cases c : rb - ra = zLen.getD wi 0
  · rw [if_pos c]
    refine (key (.inl 0) ((zLen.getD wi 0 - 0) + 1) 0 (Nat.lt_succ_self _)).trans ?_
    exact ⟨fun h => ⟨c, fun i hi => h i (Nat.zero_le _) hi⟩, fun h i _ hi => h.2 i hi⟩
  · rw [if_neg c]
    exact ⟨fun q => (by cases q), fun q => absurd q.1 c⟩
variable {x : Nat × Nat × Int32 × Int32} {m : Int32 × Nat × Nat × Int32}
theorem word_iff (h : pTx tape text zs) (h9 : zs ≤ 900) (hk : pTk tape zs x m) {wi : Nat} (hw : wi < 22) : rf_isWord x.1 x.2.1 x.2.2.1 tape wi = true ↔ mf_inWords zs m.1 m.2.1 m.2.2.1 text = nI (xWo wi) := by
  obtain ⟨x1, x2, x3, x4⟩ := x
  obtain ⟨m1, m2, m3, m4⟩ := m
  obtain ⟨k1, k2, k3, k4, k5⟩ := hk
  dsimp only at k1 k2 k3 k4 k5 ⊢
  subst k1 k2
  obtain ⟨w1, w2, w3⟩ := w_x wi hw
  have no : ¬ x3 = 1 → ¬ m1 = 2 → (rf_isWord x1 x2 x3 tape wi = true ↔ mf_inWords zs m1 x1 x2 text = nI (xWo wi)) := by
    intro n1 n2
    unfold rf_isWord mf_inWords
    rw [if_neg n1, if_neg n2]
    exact ⟨fun q => (by cases q), fun q => absurd (show nI (xWo wi) < 0 by rw [← q]; decide) (nI_pos (by omega))⟩
  rcases k5 with ⟨a1, a2⟩ | ⟨a1, a2, a3, a4⟩ | ⟨a1, a2, -⟩ | ⟨a1, a2, -⟩ | ⟨a1, a2, -⟩
  · exact no (by rw [a1]; decide) (by rw [a2]; decide)
  · rw [a1, a2, isW, inW_iff (by omega) k3 w1, w2]
    have hb : ∀ i, i < mLe (xWo wi) → x2 - x1 = mLe (xWo wi) → (tape (x1 + i) = zch wi i ↔ zch 22 (mPo (xWo wi) + i) = mf_byteAt zs text (x1 + i)) := by
      intro i hi hl
      have hc := a4 (x1 + i) (by omega) (by omega)
      rw [by_at h, if_neg (by omega), ← (cb_all h.1 (x1 + i)).2.2.2.2.1 (by omega), w3 i hi]
      exact eq_comm
    constructor
    · exact fun q => ⟨q.1, fun i hi => (hb i hi q.1).mp (q.2 i hi)⟩
    · exact fun q => ⟨q.1, fun i hi => (hb i hi q.1).mpr (q.2 i hi)⟩
  · exact no (by rw [a1]; decide) (by rw [a2]; decide)
  · exact no (by rw [a1]; decide) (by rw [a2]; decide)
  · exact no (by rw [a1]; decide) (by rw [a2]; decide)
theorem inW_rng (h9 : zs ≤ 900) (hk : pTk tape zs x m) : mf_inWords zs m.1 m.2.1 m.2.2.1 text = -1 ∨ ∃ w, w < 22 ∧ mf_inWords zs m.1 m.2.1 m.2.2.1 text = nI w := by
  by_cases c : m.1 = 2
  · rw [c]
    rcases inW (zs := zs) (text := text) (show m.2.2.1 ≤ 900 by have := hk.2.2.2.1; omega) hk.2.2.1 with ⟨v, v1, v2, v3⟩ | ⟨v1, v2⟩
    · exact Or.inr ⟨v, v1, v3⟩
    · exact Or.inl v2
  · left
    unfold mf_inWords
    rw [if_neg c]
theorem acts_v (h : pTx tape text zs) (h9 : zs ≤ 900) (hk : pTk tape zs x m) : (∃ i, i < 7 ∧ rf_acts x.1 x.2.1 x.2.2.1 tape = nI i ∧ mf_inWords zs m.1 m.2.1 m.2.2.1 text = nI (xWo i)) ∨ (rf_acts x.1 x.2.1 x.2.2.1 tape = -1 ∧ ∀ i, i < 7 → ¬ mf_inWords zs m.1 m.2.1 m.2.2.1 text = nI (xWo i)) := by
  have hw : ∀ i, i < 22 → (rf_isWord x.1 x.2.1 x.2.2.1 tape i = true ↔ mf_inWords zs m.1 m.2.1 m.2.2.1 text = nI (xWo i)) := fun i hi => word_iff h h9 hk hi
  unfold rf_acts
  by_cases c0 : rf_isWord x.1 x.2.1 x.2.2.1 tape 0 = true
  · rw [if_pos c0]; exact Or.inl ⟨0, by omega, rfl, (hw 0 (by omega)).mp c0⟩
  rw [if_neg c0]
  by_cases c1 : rf_isWord x.1 x.2.1 x.2.2.1 tape 1 = true
  · rw [if_pos c1]; exact Or.inl ⟨1, by omega, rfl, (hw 1 (by omega)).mp c1⟩
  rw [if_neg c1]
  by_cases c2 : rf_isWord x.1 x.2.1 x.2.2.1 tape 2 = true
  · rw [if_pos c2]; exact Or.inl ⟨2, by omega, rfl, (hw 2 (by omega)).mp c2⟩
  rw [if_neg c2]
  by_cases c3 : rf_isWord x.1 x.2.1 x.2.2.1 tape 3 = true
  · rw [if_pos c3]; exact Or.inl ⟨3, by omega, rfl, (hw 3 (by omega)).mp c3⟩
  rw [if_neg c3]
  by_cases c4 : rf_isWord x.1 x.2.1 x.2.2.1 tape 4 = true
  · rw [if_pos c4]; exact Or.inl ⟨4, by omega, rfl, (hw 4 (by omega)).mp c4⟩
  rw [if_neg c4]
  by_cases c5 : rf_isWord x.1 x.2.1 x.2.2.1 tape 5 = true
  · rw [if_pos c5]; exact Or.inl ⟨5, by omega, rfl, (hw 5 (by omega)).mp c5⟩
  rw [if_neg c5]
  by_cases c6 : rf_isWord x.1 x.2.1 x.2.2.1 tape 6 = true
  · rw [if_pos c6]; exact Or.inl ⟨6, by omega, rfl, (hw 6 (by omega)).mp c6⟩
  rw [if_neg c6]
  refine Or.inr ⟨rfl, fun i hi q => ?_⟩
  have : i = 0 ∨ i = 1 ∨ i = 2 ∨ i = 3 ∨ i = 4 ∨ i = 5 ∨ i = 6 := by omega
  rcases this with rfl | rfl | rfl | rfl | rfl | rfl | rfl
  · exact c0 ((hw 0 (by omega)).mpr q)
  · exact c1 ((hw 1 (by omega)).mpr q)
  · exact c2 ((hw 2 (by omega)).mpr q)
  · exact c3 ((hw 3 (by omega)).mpr q)
  · exact c4 ((hw 4 (by omega)).mpr q)
  · exact c5 ((hw 5 (by omega)).mpr q)
  · exact c6 ((hw 6 (by omega)).mpr q)
theorem tests_v (h : pTx tape text zs) (h9 : zs ≤ 900) (hk : pTk tape zs x m) : (∃ i, i < 3 ∧ rf_tests x.1 x.2.1 x.2.2.1 tape = nI i ∧ mf_inWords zs m.1 m.2.1 m.2.2.1 text = nI (19 + i)) ∨ (rf_tests x.1 x.2.1 x.2.2.1 tape = -1 ∧ ∀ i, i < 3 → ¬ mf_inWords zs m.1 m.2.1 m.2.2.1 text = nI (19 + i)) := by
  have hw : ∀ i, i < 22 → (rf_isWord x.1 x.2.1 x.2.2.1 tape i = true ↔ mf_inWords zs m.1 m.2.1 m.2.2.1 text = nI (xWo i)) := fun i hi => word_iff h h9 hk hi
  unfold rf_tests
  by_cases c0 : rf_isWord x.1 x.2.1 x.2.2.1 tape 7 = true
  · rw [if_pos c0]; exact Or.inl ⟨0, by omega, rfl, (hw 7 (by omega)).mp c0⟩
  rw [if_neg c0]
  by_cases c1 : rf_isWord x.1 x.2.1 x.2.2.1 tape 8 = true
  · rw [if_pos c1]; exact Or.inl ⟨1, by omega, rfl, (hw 8 (by omega)).mp c1⟩
  rw [if_neg c1]
  by_cases c2 : rf_isWord x.1 x.2.1 x.2.2.1 tape 9 = true
  · rw [if_pos c2]; exact Or.inl ⟨2, by omega, rfl, (hw 9 (by omega)).mp c2⟩
  rw [if_neg c2]
  refine Or.inr ⟨rfl, fun i hi q => ?_⟩
  have : i = 0 ∨ i = 1 ∨ i = 2 := by omega
  rcases this with rfl | rfl | rfl
  · exact c0 ((hw 7 (by omega)).mpr q)
  · exact c1 ((hw 8 (by omega)).mpr q)
  · exact c2 ((hw 9 (by omega)).mpr q)
theorem kept_iff (h : pTx tape text zs) (h9 : zs ≤ 900) (hk : pTk tape zs x m) : rf_isKept x.1 x.2.1 x.2.2.1 tape = true ↔ ¬ mf_inWords zs m.1 m.2.1 m.2.2.1 text = -1 := by
  have hw : ∀ i, i < 22 → (rf_isWord x.1 x.2.1 x.2.2.1 tape i = true ↔ mf_inWords zs m.1 m.2.1 m.2.2.1 text = nI (xWo i)) := fun i hi => word_iff h h9 hk hi
  have hm1 : ∀ w, w < 22 → ¬ nI w = -1 := fun w hw q => nI_pos (n := w) (by omega) (by rw [q]; decide)
  constructor
  · intro q e
    have hn : ∀ i, i < 22 → ¬ rf_isWord x.1 x.2.1 x.2.2.1 tape i = true := fun i hi z => hm1 (xWo i) (w_x i hi).1 (((hw i hi).mp z).symm.trans e)
    have ha : ¬ (0 : Int32) ≤ rf_acts x.1 x.2.1 x.2.2.1 tape := by
      rcases acts_v h h9 hk with ⟨i, hi, -, z⟩ | ⟨z, -⟩
      · exact absurd (z.symm.trans e) (hm1 _ (w_x i (by omega)).1)
      · rw [z]; decide
    have ht : ¬ (0 : Int32) ≤ rf_tests x.1 x.2.1 x.2.2.1 tape := by
      rcases tests_v h h9 hk with ⟨i, hi, -, z⟩ | ⟨z, -⟩
      · exact absurd (z.symm.trans e) (hm1 _ (by omega))
      · rw [z]; decide
    unfold rf_isKept rf_isKept_V0 zlet at q
    dsimp only at q
    rw [if_neg (hn 10 (by omega)), if_neg (hn 11 (by omega)), if_neg (hn 12 (by omega)), if_neg (hn 13 (by omega)), if_neg (hn 14 (by omega)), if_neg (hn 15 (by omega)), if_neg (hn 16 (by omega)), if_neg (hn 17 (by omega)), if_neg (hn 18 (by omega)), if_neg (by decide), if_neg ha, if_neg ht, if_neg (hn 19 (by omega)), if_neg (hn 20 (by omega)), if_neg (hn 21 (by omega))] at q
    cases q
  · intro q
    obtain ⟨w, hw22, e⟩ := (inW_rng (text := text) h9 hk).resolve_left q
    obtain ⟨i, hi, rfl⟩ := w_sur w hw22
    have hi' := (hw i hi).mpr e
    have ha : i < 7 → (0 : Int32) ≤ rf_acts x.1 x.2.1 x.2.2.1 tape := by
      intro h7
      rcases acts_v h h9 hk with ⟨j, hj, z, -⟩ | ⟨-, z⟩
      · rw [z]; exact nI_pos' (by omega)
      · exact absurd e (z i h7)
    have ht : 7 ≤ i → i < 10 → (0 : Int32) ≤ rf_tests x.1 x.2.1 x.2.2.1 tape := by
      intro h7 h10
      have e19 : xWo i = 19 + (i - 7) := by
        have : i = 7 ∨ i = 8 ∨ i = 9 := by omega
        rcases this with rfl | rfl | rfl <;> rfl
      rcases tests_v h h9 hk with ⟨j, hj, z, -⟩ | ⟨-, z⟩
      · rw [z]; exact nI_pos' (by omega)
      · exact absurd (e19 ▸ e) (z (i - 7) (by omega))
    unfold rf_isKept zlet
    dsimp only
    by_cases c : rf_isKept_V0 x.1 x.2.1 x.2.2.1 tape = true
    · rw [if_pos c]
    · rw [if_neg c]
      by_cases c1 : (0 : Int32) ≤ rf_acts x.1 x.2.1 x.2.2.1 tape
      · rw [if_pos c1]
      · rw [if_neg c1]
        by_cases c2 : (0 : Int32) ≤ rf_tests x.1 x.2.1 x.2.2.1 tape
        · rw [if_pos c2]
        · rw [if_neg c2]
          have hlow : ¬ i < 10 := fun z => by
            by_cases z7 : i < 7
            · exact c1 (ha z7)
            · exact c2 (ht (by omega) z)
          have hmid : ¬ (10 ≤ i ∧ i < 19) := by
            intro z
            apply c
            unfold rf_isKept_V0
            have : i = 10 ∨ i = 11 ∨ i = 12 ∨ i = 13 ∨ i = 14 ∨ i = 15 ∨ i = 16 ∨ i = 17 ∨ i = 18 := by omega
            rcases this with rfl | rfl | rfl | rfl | rfl | rfl | rfl | rfl | rfl <;> simp only [hi', if_true, ite_self]
          have : i = 19 ∨ i = 20 ∨ i = 21 := by omega
          rcases this with rfl | rfl | rfl <;> simp only [hi', if_true, ite_self]
end R27
