/-! r37: a row of a town on both sides -/
section R37
variable {tape text : Nat → Int32} {zs Wd R B : Nat} {fp : Int32} {a at_ : Nat → Int32} {p ho al ne : Int32}
def rBt (p h a n : Bool) : Bool := (!a || p) && (!(p && n) || a) && (!a || h) && (!n || h) && (!p || h)
theorem rBt_z : ∀ p a n : Bool, rBt p false a n = true → p = false ∧ a = false ∧ n = false := by decide
/-- the new slot's lamps as x's town has them, all below a bound -/
def rI (a : Nat → Int32) (p ho al ne : Int32) (B : Nat) : Prop :=
  a 1642 = ho ∧ a 1643 = p ∧ a 1644 = (al ||| ne) ∧ ∀ i, i < 32 → rBt (bt p i) (bt ho i) (bt al i) (bt ne i) = true ∧ (B ≤ i → bt ho i = false)
def lB (B : Nat) : Int32 := (1 : Int32) <<< (nI B &&& 31)
theorem bt_lB {i : Nat} (hB : B < 32) (hi : i < 32) : bt (lB B) i = decide (i = B) := bt_s hB hi
theorem or_r (x y z : Int32) : (x ||| y) ||| z = (x ||| z) ||| y := by
  refine b_ext fun i hi => ?_
  simp only [b_or]
  cases bt x i <;> cases bt y i <;> cases bt z i <;> rfl
theorem or_a (x y z : Int32) : (x ||| y) ||| z = x ||| (y ||| z) := by
  refine b_ext fun i hi => ?_
  simp only [b_or]
  cases bt x i <;> cases bt y i <;> cases bt z i <;> rfl
theorem rI_n (h : rI a p ho al ne B) : rI a p ho al ne (B + 1) := ⟨h.1, h.2.1, h.2.2.1, fun i hi => ⟨(h.2.2.2 i hi).1, fun q => (h.2.2.2 i hi).2 (by omega)⟩⟩
theorem rI_bit {p' al' ne' : Int32} (hB : B < 32) (h : ∀ i, i < 32 → rBt (bt p i) (bt ho i) (bt al i) (bt ne i) = true ∧ (B ≤ i → bt ho i = false)) {fp fa fn : Bool} (hf : rBt fp true fa fn = true) (ep : ∀ i, i < 32 → bt p' i = (bt p i || (fp && decide (i = B)))) (ea : ∀ i, i < 32 → bt al' i = (bt al i || (fa && decide (i = B)))) (en : ∀ i, i < 32 → bt ne' i = (bt ne i || (fn && decide (i = B)))) : ∀ i, i < 32 → rBt (bt p' i) (bt (ho ||| lB B) i) (bt al' i) (bt ne' i) = true ∧ (B + 1 ≤ i → bt (ho ||| lB B) i = false) := by
  intro i hi
  obtain ⟨g1, g2⟩ := h i hi
  rw [ep i hi, ea i hi, en i hi, b_or, bt_lB hB hi]
  by_cases e : i = B
  · have q := g2 (by omega)
    rw [q] at g1
    obtain ⟨q1, q2, q3⟩ := rBt_z _ _ _ g1
    rw [q, q1, q2, q3, decide_eq_true e]
    simp only [Bool.false_or, Bool.and_true]
    exact ⟨hf, fun w => absurd w (by omega)⟩
  · rw [decide_eq_false e]
    simp only [Bool.and_false, Bool.or_false]
    exact ⟨g1, fun w => g2 (by omega)⟩
theorem rI_w (hB : B < 32) (h : rI a p ho al ne B) : rI (upd (upd (upd a 1642 ((a 1642) ||| lB B)) 1643 ((a 1643) ||| lB B)) 1644 ((a 1644) ||| lB B)) (p ||| lB B) (ho ||| lB B) (al ||| lB B) ne (B + 1) := by
  obtain ⟨h1, h2, h3, h4⟩ := h
  refine ⟨?_, ?_, ?_, rI_bit (fp := true) (fa := true) (fn := false) hB h4 rfl (fun i hi => ?_) (fun i hi => ?_) (fun i hi => ?_)⟩
  · rw [pk_un (by decide), pk_un (by decide), pk_us, h1]
  · rw [pk_un (by decide), pk_us, h2]
  · rw [pk_us, h3]; exact or_r al ne (lB B)
  · rw [b_or, bt_lB hB hi, Bool.true_and]
  · rw [b_or, bt_lB hB hi, Bool.true_and]
  · rw [Bool.false_and, Bool.or_false]
theorem rI_x (hB : B < 32) (h : rI a p ho al ne B) : rI (upd (upd a 1642 ((a 1642) ||| lB B)) 1644 ((a 1644) ||| lB B)) p (ho ||| lB B) al (ne ||| lB B) (B + 1) := by
  obtain ⟨h1, h2, h3, h4⟩ := h
  refine ⟨?_, ?_, ?_, rI_bit (fp := false) (fa := false) (fn := true) hB h4 rfl (fun i hi => ?_) (fun i hi => ?_) (fun i hi => ?_)⟩
  · rw [pk_un (by decide), pk_us, h1]
  · rw [pk_un (by decide), pk_un (by decide), h2]
  · rw [pk_us, h3]; exact or_a al ne (lB B)
  · rw [Bool.false_and, Bool.or_false]
  · rw [Bool.false_and, Bool.or_false]
  · rw [b_or, bt_lB hB hi, Bool.true_and]
theorem rI_l (hB : B < 32) (h : rI a p ho al ne B) : rI (upd (upd a 1642 ((a 1642) ||| lB B)) 1643 ((a 1643) ||| lB B)) (p ||| lB B) (ho ||| lB B) al ne (B + 1) := by
  obtain ⟨h1, h2, h3, h4⟩ := h
  refine ⟨?_, ?_, ?_, rI_bit (fp := true) (fa := false) (fn := false) hB h4 rfl (fun i hi => ?_) (fun i hi => ?_) (fun i hi => ?_)⟩
  · rw [pk_un (by decide), pk_us, h1]
  · rw [pk_us, h2]
  · rw [pk_un (by decide), pk_un (by decide), h3]
  · rw [b_or, bt_lB hB hi, Bool.true_and]
  · rw [Bool.false_and, Bool.or_false]
  · rw [Bool.false_and, Bool.or_false]
theorem rI_d (hB : B < 32) (h : rI a p ho al ne B) : rI (upd a 1642 ((a 1642) ||| lB B)) p (ho ||| lB B) al ne (B + 1) := by
  obtain ⟨h1, h2, h3, h4⟩ := h
  refine ⟨?_, ?_, ?_, rI_bit (fp := false) (fa := false) (fn := false) hB h4 rfl (fun i hi => ?_) (fun i hi => ?_) (fun i hi => ?_)⟩
  · rw [pk_us, h1]
  · rw [pk_un (by decide), h2]
  · rw [pk_un (by decide), h3]
  · rw [Bool.false_and, Bool.or_false]
  · rw [Bool.false_and, Bool.or_false]
  · rw [Bool.false_and, Bool.or_false]
/-- one letter -/
theorem bits_step (h : pTx tape text zs) (t2 : Nat × Nat × Int32 × Int32) (m2 : Int32 × Nat × Nat × Int32) (ht : t2.1 = m2.2.1) {j : Nat} (hj : m2.2.1 + j < m2.2.2.1) (hz : m2.2.2.1 ≤ zs) (hB : Wd * R + j < 32) {s : Int32 × Int32 × Int32 × Int32} (h40 : a 1640 = nI Wd) (h41 : a 1641 = nI R) (hW : Wd ≤ 5) (hR : R ≤ 6) (hI : rI a s.1 s.2.1 s.2.2.1 s.2.2.2 (Wd * R + j)) : ∃ a', mf_aRow_B99 zs text m2 (m2.2.1 + j, a) = .inl (m2.2.1 + (j + 1), a') ∧ rI a' (rf_row_B170 tape Wd R t2 j s).1 (rf_row_B170 tape Wd R t2 j s).2.1 (rf_row_B170 tape Wd R t2 j s).2.2.1 (rf_row_B170 tape Wd R t2 j s).2.2.2 (Wd * R + (j + 1)) ∧ ∀ k, ¬ k = 1642 → ¬ k = 1643 → ¬ k = 1644 → a' k = a k := by
  have hs : ∀ c : Nat, c < 128 → (tape (m2.2.1 + j) = nI c ↔ mf_byteAt zs text (m2.2.1 + j) = nI c) := fun c hc => (cb_eq h.1 hc).trans (((by_eq (k := m2.2.1 + j) h (by omega)).trans ⟨fun q => q.2, fun q => ⟨by omega, q⟩⟩).symm)
  have e1 : tape (m2.2.1 + j) = 108 ↔ mf_byteAt zs text (m2.2.1 + j) = 108 := hs 108 (by omega)
  have e2 : tape (m2.2.1 + j) = 110 ↔ mf_byteAt zs text (m2.2.1 + j) = 110 := hs 110 (by omega)
  have e3 : tape (m2.2.1 + j) = 119 ↔ mf_byteAt zs text (m2.2.1 + j) = 119 := hs 119 (by omega)
  have e4 : tape (m2.2.1 + j) = 120 ↔ mf_byteAt zs text (m2.2.1 + j) = 120 := hs 120 (by omega)
  have ew : nI Wd * nI R = nI (Wd * R) := pk_mul Wd R
  have eb : (1 : Int32) <<< ((nI Wd * nI R + nI j) &&& 31) = lB (Wd * R + j) := by rw [ew, nI_add]; rfl
  have em0 : ((a 1640).toNatClampNeg * (a 1641).toNatClampNeg + (m2.2.1 + j)) - m2.2.1 = Wd * R + j := by
    rw [h40, h41, nI_clamp (by omega), nI_clamp (by omega)]; omega
  have em : (1 : Int32) <<< ((nI (((a 1640).toNatClampNeg * (a 1641).toNatClampNeg + (m2.2.1 + j)) - m2.2.1)) &&& 31) = lB (Wd * R + j) := by rw [em0]; rfl
  unfold mf_aRow_B99 rf_row_B170
  dsimp only
  rw [if_neg (show ¬ m2.2.2.1 ≤ m2.2.1 + j by omega), ht]
  simp only [e1, e2, e3, e4, em, eb]
  have w1 : ∀ x : Int32, ¬ x = 1642 → True := fun _ _ => trivial
  have f3 : ∀ (x y z : Int32) (k : Nat), ¬ k = 1642 → ¬ k = 1643 → ¬ k = 1644 → upd (upd (upd a 1642 x) 1643 y) 1644 z k = a k := fun x y z k k1 k2 k3 => by rw [pk_un k3, pk_un k2, pk_un k1]
  by_cases c1 : mf_byteAt zs text (m2.2.1 + j) = 110
  · have n1 : ¬ mf_byteAt zs text (m2.2.1 + j) = 108 := by rw [c1]; decide
    have n2 : ¬ mf_byteAt zs text (m2.2.1 + j) = 119 := by rw [c1]; decide
    have n3 : ¬ mf_byteAt zs text (m2.2.1 + j) = 120 := by rw [c1]; decide
    simp only [if_pos c1, if_neg n1, if_neg n2, if_neg n3]
    exact ⟨a, rfl, rI_n hI, fun _ _ _ _ => rfl⟩
  · by_cases c2 : mf_byteAt zs text (m2.2.1 + j) = 119
    · have n1 : ¬ mf_byteAt zs text (m2.2.1 + j) = 108 := by rw [c2]; decide
      have n3 : ¬ mf_byteAt zs text (m2.2.1 + j) = 120 := by rw [c2]; decide
      simp only [if_neg c1, if_neg n1, if_pos c2, if_neg n3]
      exact ⟨_, rfl, rI_w hB hI, fun k k1 k2 k3 => by rw [pk_un k3, pk_un k2, pk_un k1]⟩
    · by_cases c3 : mf_byteAt zs text (m2.2.1 + j) = 120
      · have n1 : ¬ mf_byteAt zs text (m2.2.1 + j) = 108 := by rw [c3]; decide
        simp only [if_neg c1, if_neg n1, if_neg c2, if_pos c3]
        exact ⟨_, rfl, rI_x hB hI, fun k k1 k2 k3 => by rw [pk_un k3, pk_un k1]⟩
      · by_cases c4 : mf_byteAt zs text (m2.2.1 + j) = 108
        · simp only [if_neg c1, if_pos c4, if_neg c2, if_neg c3]
          exact ⟨_, rfl, rI_l hB hI, fun k k1 k2 k3 => by rw [pk_un k2, pk_un k1]⟩
        · simp only [if_neg c1, if_neg c4, if_neg c2, if_neg c3]
          exact ⟨_, rfl, rI_d hB hI, fun k k1 k2 k3 => by rw [pk_un k1]⟩
/-- all letters of a row -/
theorem bits_run (h : pTx tape text zs) (t2 : Nat × Nat × Int32 × Int32) (m2 : Int32 × Nat × Nat × Int32) (ht : t2.1 = m2.2.1) (hen : m2.2.2.1 = m2.2.1 + Wd) (hz : m2.2.2.1 ≤ zs) (hW : Wd ≤ 5) (hR : R < 6) (h40 : at_ 1640 = nI Wd) (h41 : at_ 1641 = nI R) (s0 : Int32 × Int32 × Int32 × Int32) (hI0 : rI at_ s0.1 s0.2.1 s0.2.2.1 s0.2.2.2 (Wd * R)) (d : Nat × (Nat → Int32)) : ∀ n j b, j ≤ Wd → Wd - j < n → rI b (zf (rf_row_B170 tape Wd R t2) s0 j).1 (zf (rf_row_B170 tape Wd R t2) s0 j).2.1 (zf (rf_row_B170 tape Wd R t2) s0 j).2.2.1 (zf (rf_row_B170 tape Wd R t2) s0 j).2.2.2 (Wd * R + j) → (∀ k, ¬ k = 1642 → ¬ k = 1643 → ¬ k = 1644 → b k = at_ k) → ∃ a', zw (mf_aRow_B99 zs text m2) d n (m2.2.1 + j, b) = (m2.2.2.1, a') ∧ rI a' (zf (rf_row_B170 tape Wd R t2) s0 Wd).1 (zf (rf_row_B170 tape Wd R t2) s0 Wd).2.1 (zf (rf_row_B170 tape Wd R t2) s0 Wd).2.2.1 (zf (rf_row_B170 tape Wd R t2) s0 Wd).2.2.2 (Wd * R + Wd) ∧ ∀ k, ¬ k = 1642 → ¬ k = 1643 → ¬ k = 1644 → a' k = at_ k := by
  intro n
  induction n with
  | zero => exact fun j b _ hn => absurd hn (Nat.not_lt_zero _)
  | succ n ih =>
    intro j b hj hn hb hf
    by_cases c : j = Wd
    · subst c
      refine ⟨b, ?_, hb, hf⟩
      rw [zw_r (show mf_aRow_B99 zs text m2 (m2.2.1 + j, b) = .inr (m2.2.1 + j, b) by unfold mf_aRow_B99; rw [if_pos (show m2.2.2.1 ≤ m2.2.1 + j by omega)]), hen]
    · have hWR : Wd * R ≤ 5 * 5 := Nat.mul_le_mul hW (by omega)
      obtain ⟨b', e1, e2, e3⟩ := bits_step (Wd := Wd) (R := R) h t2 m2 ht (j := j) (by omega) hz (by omega) (by rw [hf 1640 (by decide) (by decide) (by decide)]; exact h40) (by rw [hf 1641 (by decide) (by decide) (by decide)]; exact h41) hW (by omega) hb
      rw [zw_l e1]
      exact ih (j + 1) b' (by omega) (by omega) e2 (fun k k1 k2 k3 => (e3 k k1 k2 k3).trans (hf k k1 k2 k3))
end R37
