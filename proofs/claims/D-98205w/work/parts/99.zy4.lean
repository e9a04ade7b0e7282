/-! r45: the rows of an encoded year are sound -/
section R45
variable {a : Nat → Int32} {Wd R nr nn : Nat}
theorem row_act {k : Nat} {t : Int32 × Nat} (h4 : nr ≤ 4) (h : yRow a Wd R nr k t) : mROW a nr nn k ∧ ¬ a (44 + 6 * k) = 17 := by
  rcases h with ⟨-, e, e1, e2⟩ | ⟨-, e, -⟩ | ⟨-, e, e1, e2⟩ | ⟨-, e⟩ | ⟨-, e, -⟩ | ⟨-, e⟩ | ⟨-, e⟩
  · refine ⟨⟨fun _ => ?_, fun q => ?_, fun q => ?_, fun q => ?_, fun q => ?_⟩, fun q => ?_⟩
    · rw [e1, nI_clamp (by omega)]; exact ⟨nI_pos (by omega), e2⟩
    · exact absurd (e.symm.trans q) (by decide)
    · exact absurd (e.symm.trans q) (by decide)
    · exact absurd (e.symm.trans q) (by decide)
    · rw [e] at q; exact absurd q (by decide)
    · exact absurd (e.symm.trans q) (by decide)
  · refine ⟨⟨fun q => ?_, fun q => ?_, fun q => ?_, fun q => ?_, fun q => ?_⟩, fun q => ?_⟩
    · exact absurd (e.symm.trans q) (by decide)
    · exact absurd (e.symm.trans q) (by decide)
    · exact absurd (e.symm.trans q) (by decide)
    · exact absurd (e.symm.trans q) (by decide)
    · rw [e] at q; exact absurd q (by decide)
    · exact absurd (e.symm.trans q) (by decide)
  · refine ⟨⟨fun q => ?_, fun _ => ?_, fun q => ?_, fun q => ?_, fun q => ?_⟩, fun q => ?_⟩
    · exact absurd (e.symm.trans q) (by decide)
    · rw [e1, nI_clamp (by omega)]; exact ⟨nI_pos (by omega), e2⟩
    · exact absurd (e.symm.trans q) (by decide)
    · exact absurd (e.symm.trans q) (by decide)
    · rw [e] at q; exact absurd q (by decide)
    · exact absurd (e.symm.trans q) (by decide)
  · refine ⟨⟨fun q => ?_, fun q => ?_, fun q => ?_, fun q => ?_, fun q => ?_⟩, fun q => ?_⟩
    · exact absurd (e.symm.trans q) (by decide)
    · exact absurd (e.symm.trans q) (by decide)
    · exact absurd (e.symm.trans q) (by decide)
    · exact absurd (e.symm.trans q) (by decide)
    · rw [e] at q; exact absurd q (by decide)
    · exact absurd (e.symm.trans q) (by decide)
  · refine ⟨⟨fun q => ?_, fun q => ?_, fun q => ?_, fun q => ?_, fun q => ?_⟩, fun q => ?_⟩
    · exact absurd (e.symm.trans q) (by decide)
    · exact absurd (e.symm.trans q) (by decide)
    · exact absurd (e.symm.trans q) (by decide)
    · exact absurd (e.symm.trans q) (by decide)
    · rw [e] at q; exact absurd q (by decide)
    · exact absurd (e.symm.trans q) (by decide)
  · refine ⟨⟨fun q => ?_, fun q => ?_, fun q => ?_, fun q => ?_, fun q => ?_⟩, fun q => ?_⟩
    · exact absurd (e.symm.trans q) (by decide)
    · exact absurd (e.symm.trans q) (by decide)
    · exact absurd (e.symm.trans q) (by decide)
    · exact absurd (e.symm.trans q) (by decide)
    · rw [e] at q; exact absurd q (by decide)
    · exact absurd (e.symm.trans q) (by decide)
  · refine ⟨⟨fun q => ?_, fun q => ?_, fun q => ?_, fun q => ?_, fun q => ?_⟩, fun q => ?_⟩
    · exact absurd (e.symm.trans q) (by decide)
    · exact absurd (e.symm.trans q) (by decide)
    · exact absurd (e.symm.trans q) (by decide)
    · exact absurd (e.symm.trans q) (by decide)
    · rw [e] at q; exact absurd q (by decide)
    · exact absurd (e.symm.trans q) (by decide)
theorem row_tst {k c : Nat} {w : Int32 × Int32 × Int32} (h : yTst a Wd R k w) (hc : a (44 + 6 * k + 4) = nI c) (hcn : c < nn) (hnn : nn ≤ 60) : mROW a nr nn k ∧ ¬ a (44 + 6 * k) = 17 := by
  have key : ∀ v : Int32, (v = 1519 ∨ v = 1520 ∨ v = 1521) → a (44 + 6 * k) = v → mROW a nr nn k ∧ ¬ a (44 + 6 * k) = 17 := by
    intro v hv e
    have n9 : ¬ v = 9 := by rcases hv with rfl | rfl | rfl <;> decide
    have n11 : ¬ v = 11 := by rcases hv with rfl | rfl | rfl <;> decide
    have n16 : ¬ v = 16 := by rcases hv with rfl | rfl | rfl <;> decide
    have n17 : ¬ v = 17 := by rcases hv with rfl | rfl | rfl <;> decide
    refine ⟨⟨fun q => absurd (e.symm.trans q) n9, fun q => absurd (e.symm.trans q) n11, fun q => absurd (e.symm.trans q) n16, fun q => absurd (e.symm.trans q) n17, fun _ => ?_⟩, fun q => absurd (e.symm.trans q) n17⟩
    rw [hc, nI_clamp (by omega)]
    exact ⟨nI_pos (by omega), hcn⟩
  rcases h with ⟨-, e, -⟩ | ⟨-, e, -⟩ | ⟨-, e⟩
  · exact key _ (Or.inl rfl) e
  · exact key _ (Or.inr (Or.inl rfl)) e
  · exact key _ (Or.inr (Or.inr rfl)) e
theorem row_loop {k m : Nat} (e : a (44 + 6 * k) = 16) (e1 : a (44 + 6 * k + 1) = nI m) (m1 : 1 ≤ m) (m9 : m ≤ 99) : mROW a nr nn k ∧ ¬ a (44 + 6 * k) = 17 := by
  refine ⟨⟨fun q => ?_, fun q => ?_, fun _ => ⟨m - 1, ?_, by omega⟩, fun q => ?_, fun q => ?_⟩, fun q => ?_⟩
  · exact absurd (e.symm.trans q) (by decide)
  · exact absurd (e.symm.trans q) (by decide)
  · rw [e1, show m - 1 + 1 = m by omega]
  · exact absurd (e.symm.trans q) (by decide)
  · rw [e] at q; exact absurd q (by decide)
  · exact absurd (e.symm.trans q) (by decide)
theorem row_close {k c : Nat} (e : a (44 + 6 * c) = 17) (e4 : a (44 + 6 * c + 4) = nI k) (hkc : k < c) (hc : c < 60) (hn : k + 1 < c → ¬ a (44 + 6 * (k + 1)) = 17) : mROW a nr nn c := by
  refine ⟨fun q => ?_, fun q => ?_, fun q => ?_, fun _ => ?_, fun q => ?_⟩
  · exact absurd (e.symm.trans q) (by decide)
  · exact absurd (e.symm.trans q) (by decide)
  · exact absurd (e.symm.trans q) (by decide)
  · rw [e4, nI_clamp (by omega)]
    refine ⟨nI_pos (by omega), hkc, fun q => ?_⟩
    apply Classical.byContradiction
    intro z
    exact hn (by omega) q
  · rw [e] at q; exact absurd q (by decide)
def eOK (a : Nat → Int32) (nr nn : Nat) (k e : Nat) : Prop := k < e ∧ ¬ a (44 + 6 * k) = 17 ∧ ∀ j, k ≤ j → j < e → mROW a nr nn j
theorem encs_rows {α : Type} {en : α → Nat → Nat → Prop} (H : ∀ t k e, en t k e → e ≤ nn → eOK a nr nn k e) : ∀ (cs : List α) (k e : Nat), yEncs en cs k e → e ≤ nn → k ≤ e ∧ (k < e → ¬ a (44 + 6 * k) = 17) ∧ ∀ j, k ≤ j → j < e → mROW a nr nn j
  | [], k, e, h, _ => by
    have h : e = k := h
    exact ⟨by omega, fun q => by omega, fun j j1 j2 => by omega⟩
  | t :: ts, k, e, h, he => by
    obtain ⟨k1, h1, h2⟩ := h
    have hle : k1 ≤ e ∧ (k1 < e → ¬ a (44 + 6 * k1) = 17) ∧ ∀ j, k1 ≤ j → j < e → mROW a nr nn j := encs_rows H ts k1 e h2 he
    obtain ⟨g1, g2, g3⟩ := H t k k1 h1 (by omega)
    refine ⟨by omega, fun _ => g2, fun j j1 j2 => ?_⟩
    by_cases q : j < k1
    · exact g3 j j1 q
    · exact hle.2.2 j (by omega) j2
theorem enc_rows (h4' : nr ≤ 4) (hnn : nn ≤ 60) : ∀ (lev : Nat) (t : yT lev) (k e : Nat), yEnc a Wd R nr lev t k e → e ≤ nn → eOK a nr nn k e
  | 0, t, k, e, h, he => by
    obtain ⟨h1, h2⟩ : e = k + 1 ∧ yRow a Wd R nr k t := h
    obtain ⟨g1, g2⟩ := row_act (nn := nn) h4' h2
    exact ⟨by omega, g2, fun j j1 j2 => by rw [show j = k by omega]; exact g1⟩
  | lev + 1, t, k, e, h, he => by
    have H : ∀ t k e, yEnc a Wd R nr lev t k e → e ≤ nn → eOK a nr nn k e := enc_rows h4' hnn lev
    rcases t with t | w | w
    · obtain ⟨h1, h2⟩ : e = k + 1 ∧ yRow a Wd R nr k t := h
      obtain ⟨g1, g2⟩ := row_act (nn := nn) h4' h2
      exact ⟨by omega, g2, fun j j1 j2 => by rw [show j = k by omega]; exact g1⟩
    · obtain ⟨c, h1, h2, h3, h4, h5, h6, h7, h8⟩ : ∃ c, e = c + 1 ∧ a (44 + 6 * k) = 16 ∧ a (44 + 6 * k + 1) = nI w.1 ∧ 1 ≤ w.1 ∧ w.1 ≤ 99 ∧ yEncs (yEnc a Wd R nr lev) w.2 (k + 1) c ∧ a (44 + 6 * c) = 17 ∧ a (44 + 6 * c + 4) = nI k := h
      obtain ⟨g1, g2⟩ := row_loop (nr := nr) (nn := nn) h2 h3 h4 h5
      obtain ⟨i1, i2, i3⟩ := encs_rows H w.2 (k + 1) c h6 (by omega)
      refine ⟨by omega, g2, fun j j1 j2 => ?_⟩
      by_cases q : j = k
      · rw [q]; exact g1
      · by_cases q2 : j = c
        · rw [q2]; exact row_close h7 h8 (by omega) (by omega) i2
        · exact i3 j (by omega) (by omega)
    · obtain ⟨c, h1, h2, h3, h6, h7, h8⟩ : ∃ c, e = c + 1 ∧ yTst a Wd R k w.1 ∧ a (44 + 6 * k + 4) = nI c ∧ yEncs (yEnc a Wd R nr lev) w.2 (k + 1) c ∧ a (44 + 6 * c) = 17 ∧ a (44 + 6 * c + 4) = nI k := h
      obtain ⟨g1, g2⟩ := row_tst (nr := nr) (nn := nn) h2 h3 (by omega) hnn
      obtain ⟨i1, i2, i3⟩ := encs_rows H w.2 (k + 1) c h6 (by omega)
      refine ⟨by omega, g2, fun j j1 j2 => ?_⟩
      by_cases q : j = k
      · rw [q]; exact g1
      · by_cases q2 : j = c
        · rw [q2]; exact row_close h7 h8 (by omega) (by omega) i2
        · exact i3 j (by omega) (by omega)
theorem year_rows {cs : List (yT 3)} (h4' : nr ≤ 4) (hnn : nn ≤ 60) (h : yEncs (yEnc a Wd R nr 3) cs 0 nn) : ∀ j, j < nn → mROW a nr nn j := fun j hj => (encs_rows (fun t k e => enc_rows h4' hnn 3 t k e) cs 0 nn h (Nat.le_refl _)).2.2 j (Nat.zero_le _) hj
end R45
