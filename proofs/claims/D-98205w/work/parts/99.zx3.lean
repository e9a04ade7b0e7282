/-! r36: a row's letters -/
section R36
variable {tape text : Nat → Int32} {zs : Nat} {fp : Int32} {at_ : Nat → Int32}
theorem lamp_eq (h : pTx tape text zs) {k : Nat} (hk : k < zs) (b : Bool) : rf_row_V77 tape (k, b) = mf_isLamp (mf_byteAt zs text k) := by
  have hs : ∀ c : Nat, c < 128 → (tape k = nI c ↔ mf_byteAt zs text k = nI c) := fun c hc => (cb_eq h.1 hc).trans (((by_eq (k := k) h (by omega)).trans ⟨fun q => q.2, fun q => ⟨hk, q⟩⟩).symm)
  have e1 : tape k = 100 ↔ mf_byteAt zs text k = 100 := hs 100 (by omega)
  have e2 : tape k = 108 ↔ mf_byteAt zs text k = 108 := hs 108 (by omega)
  have e3 : tape k = 110 ↔ mf_byteAt zs text k = 110 := hs 110 (by omega)
  have e4 : tape k = 119 ↔ mf_byteAt zs text k = 119 := hs 119 (by omega)
  have e5 : tape k = 120 ↔ mf_byteAt zs text k = 120 := hs 120 (by omega)
  unfold rf_row_V77 mf_isLamp
  simp only [e1, e2, e3, e4, e5]
/-- all letters are lamps, or the first that isn't ends both -/
theorem letters_eq (h : pTx tape text zs) (t2 : Nat × Nat × Int32 × Int32) (m2 : Int32 × Nat × Nat × Int32) (hb : t2.2.1 = m2.2.2.1) (hz : m2.2.2.1 ≤ zs) (d : Nat × Bool) (d' : Nat ⊕ (Bool × Int32 × Nat × Nat × Int32 × Int32 × Int32 × (Nat → Int32))) : ∀ n n' k, m2.2.2.1 - k ≤ n → m2.2.2.1 - k < n' → ((zw (rf_row_B65 tape t2) d (n + 1) (k, true)).2 = true ∧ ∃ z, zw (mf_aRow_B63 zs fp 0 at_ text m2) d' n' k = .inl z) ∨ ((zw (rf_row_B65 tape t2) d (n + 1) (k, true)).2 = false ∧ zw (mf_aRow_B63 zs fp 0 at_ text m2) d' n' k = .inr ((mf_fails m2.1 m2.2.1 fp 0 2).1, m2.1, m2.2.1, m2.2.2.1, m2.2.2.2, (mf_fails m2.1 m2.2.1 fp 0 2).2.1, (mf_fails m2.1 m2.2.1 fp 0 2).2.2, at_)) := by
  intro n
  induction n with
  | zero =>
    intro n' k hn hn'
    obtain ⟨n', rfl⟩ : ∃ m, n' = m + 1 := ⟨n' - 1, by omega⟩
    have c : m2.2.2.1 ≤ k := by omega
    refine Or.inl ⟨?_, k, zw_r ?_⟩
    · rw [zw_r (show rf_row_B65 tape t2 (k, true) = .inr (k, true) by unfold rf_row_B65; rw [if_pos rfl, if_pos (show t2.2.1 ≤ k by omega)])]
    · unfold mf_aRow_B63; rw [if_pos c]
  | succ n ih =>
    intro n' k hn hn'
    obtain ⟨n', rfl⟩ : ∃ m, n' = m + 1 := ⟨n' - 1, by omega⟩
    by_cases c : m2.2.2.1 ≤ k
    · refine Or.inl ⟨?_, k, zw_r ?_⟩
      · rw [zw_r (show rf_row_B65 tape t2 (k, true) = .inr (k, true) by unfold rf_row_B65; rw [if_pos rfl, if_pos (show t2.2.1 ≤ k by omega)])]
      · unfold mf_aRow_B63; rw [if_pos c]
    · have ex : rf_row_B65 tape t2 (k, true) = .inl (k + 1, rf_row_V77 tape (k, true)) := by
        unfold rf_row_B65 zlet
        rw [if_pos rfl, if_neg (show ¬ t2.2.1 ≤ k by omega)]
      rw [zw_l ex, lamp_eq h (show k < zs by omega)]
      by_cases g : mf_isLamp (mf_byteAt zs text k) = true
      · rw [g, zw_l (show mf_aRow_B63 zs fp 0 at_ text m2 k = .inl (k + 1) by unfold mf_aRow_B63; rw [if_neg c, if_pos g])]
        exact ih n' (k + 1) (by omega) (by omega)
      · have g' : mf_isLamp (mf_byteAt zs text k) = false := by
          cases hq : mf_isLamp (mf_byteAt zs text k)
          · rfl
          · exact absurd hq g
        rw [g', zw_r (show rf_row_B65 tape t2 (k + 1, false) = .inr (k + 1, false) by unfold rf_row_B65; dsimp only; rw [if_neg (by decide)])]
        refine Or.inr ⟨rfl, zw_r ?_⟩
        unfold mf_aRow_B63 zlet
        rw [if_neg c, if_neg g]
end R36
