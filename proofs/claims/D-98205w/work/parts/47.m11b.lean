def mLP (b : Nat → Int32) : Prop := ∀ o, o < 80 → ¬ b o < 0 ∧ (b o).toNatClampNeg ≤ 98
theorem mLP_u {b : Nat → Int32} {o : Nat} {x : Int32} (h : mLP b) (hx : ¬ x < 0 ∧ x.toNatClampNeg ≤ 98) : mLP (upd b o x) := by
  intro j hj
  by_cases e : j = o
  · subst e; rw [pk_us]; exact hx
  · rw [pk_un e]; exact h j hj
theorem mLP_s {b : Nat → Int32} {o : Nat} (h : mLP b) (ho : o < 80) : mLP (upd b o (b o - 0)) := mLP_u h (by rw [show b o - 0 = b o by grind]; exact h o ho)
theorem mLP_dec {b : Nat → Int32} {o : Nat} (h : mLP b) (ho : o < 80) (h0 : 0 < b o) : b o - 1 = nI ((b o).toNatClampNeg - 1) ∧ 1 ≤ (b o).toNatClampNeg ∧ (b o).toNatClampNeg ≤ 98 ∧ (¬ b o - 1 < 0 ∧ (b o - 1).toNatClampNeg ≤ 98) ∧ (b o - 1).toNatClampNeg + 1 = (b o).toNatClampNeg := by
  obtain ⟨h1, h2⟩ := h o ho
  have e := z_nn h1
  generalize (b o).toNatClampNeg = v at e h2 ⊢
  have hv : 1 ≤ v := by
    rcases Nat.eq_zero_or_pos v with q | q
    · rw [e, q] at h0; exact absurd h0 (by decide)
    · exact q
  have e2 : b o - 1 = nI (v - 1) := by rw [e]; exact pk_sub hv
  rw [e2, nI_clamp (by omega)]
  exact ⟨rfl, hv, h2, ⟨nI_pos (by omega), by omega⟩, by omega⟩
theorem mLP_d {b : Nat → Int32} {o : Nat} (h : mLP b) (ho : o < 80) (h0 : 0 < b o) : mLP (upd b o (b o - 1)) := mLP_u h (mLP_dec h ho h0).2.2.2.1
theorem mYR_lp {a : Nat → Int32} {Wd R nr nc nn k : Nat} (h : mYR a Wd R nr nc nn) (hk : k < nn) (h16 : a (44 + 6 * k) = 16) : ¬ a (44 + 6 * k + 1) - 1 < 0 ∧ (a (44 + 6 * k + 1) - 1).toNatClampNeg ≤ 98 := by
  obtain ⟨v, e, hv⟩ := (h.2.2.2 k hk).2.2.1 h16
  rw [e, nI_pred, nI_clamp (by omega)]
  exact ⟨nI_pos (by omega), hv⟩
theorem mLP_zero (x : Int32) : x - 0 = x := by grind
/-- how often the rows that close may still be run through -/
def zEm (a b : Nat → Int32) (nn k : Nat) : Nat := if k < nn ∧ a (44 + 6 * k) = 17 then 1 + (60 - k) * 100 + (b (a (44 + 6 * k + 4)).toNatClampNeg).toNatClampNeg else 0
theorem zEm_again {a b : Nat → Int32} {Wd R nr nc nn k n : Nat} (hY : mYR a Wd R nr nc nn) (hL : mLP b) (hk : k < nn) (h17 : a (44 + 6 * k) = 17) (h0 : 0 < b (a (44 + 6 * k + 4)).toNatClampNeg) (hmu : zEm a b nn k < n + 1) : zEm a (upd b (a (44 + 6 * k + 4)).toNatClampNeg (b (a (44 + 6 * k + 4)).toNatClampNeg - 1)) nn ((a (44 + 6 * k + 4)).toNatClampNeg + 1) < n := by
  obtain ⟨-, r1, r2⟩ := (hY.2.2.2 k hk).2.2.2.1 h17
  have hn := hY.2.2.1
  unfold zEm at hmu ⊢
  rw [if_pos ⟨hk, h17⟩] at hmu
  have hd := mLP_dec hL (by omega) h0
  by_cases c : (a (44 + 6 * k + 4)).toNatClampNeg + 1 < nn ∧ a (44 + 6 * ((a (44 + 6 * k + 4)).toNatClampNeg + 1)) = 17
  · have e := r2 c.2
    rw [if_pos c, e, pk_us]
    omega
  · rw [if_neg c]; omega
theorem zEm_on {a b : Nat → Int32} {Wd R nr nc nn k n : Nat} (hY : mYR a Wd R nr nc nn) (hL : mLP b) (hk : k < nn) (h17 : a (44 + 6 * k) = 17) {o : Nat} (hmu : zEm a b nn k < n + 1) : zEm a (upd b o (b o - 0)) nn (k + 1) < n := by
  have hn := hY.2.2.1
  have e : upd b o (b o - 0) = b := by
    funext j
    by_cases q : j = o
    · subst q; rw [pk_us]; exact mLP_zero _
    · exact pk_un q
  rw [e]
  unfold zEm at hmu ⊢
  rw [if_pos ⟨hk, h17⟩] at hmu
  by_cases c : k + 1 < nn ∧ a (44 + 6 * (k + 1)) = 17
  · obtain ⟨-, r1, -⟩ := (hY.2.2.2 (k + 1) c.1).2.2.2.1 c.2
    have := (hL _ (show (a (44 + 6 * (k + 1) + 4)).toNatClampNeg < 80 by omega)).2
    rw [if_pos c]
    omega
  · rw [if_neg c]; omega
