/-! r16: the row above; what the model's least asks -/
section R16
variable {a cb : Nat → Int32} {Wd R : Nat}
def abC (a cb : Nat → Int32) (Wd row : Nat) (undr : Int32) (y : Nat) (still : Bool) (s : Nat) : Prop := cb (1024 * y + (32 * s) + row) = 1 ∧ mf_isGood a Wd (nI s) (nI row) undr (nI y) still = true
def abL (Wd y : Nat) : Nat := if y = 0 then 1 else zpw Wd
theorem ab_B {row y s : Nat} {undr : Int32} {still : Bool} : mf_aboveOf_B3 a cb Wd row undr y still s = if abL Wd y ≤ s then .inr (.inl s) else if cb (1024 * y + (32 * s) + row) = 1 then (if mf_isGood a Wd (nI s) (nI row) undr (nI y) still = true then .inr (.inr (nI s)) else .inl (s + 1)) else .inl (s + 1) := by
  unfold mf_aboveOf_B3 abL
  by_cases c : y = 0
  · rw [if_pos c, if_pos c]
  · rw [if_neg c, if_neg c]
theorem ab_run {row y : Nat} {undr : Int32} {still : Bool} (hN : zpw Wd ≤ 32) (d : Nat ⊕ Int32) : ∀ n s, 32 - s < n → s ≤ abL Wd y → (∀ j, j < s → ¬ abC a cb Wd row undr y still j) → (∃ k, k < abL Wd y ∧ abC a cb Wd row undr y still k ∧ (∀ j, j < k → ¬ abC a cb Wd row undr y still j) ∧ zw (mf_aboveOf_B3 a cb Wd row undr y still) d n s = .inr (nI k)) ∨ ((∀ j, j < abL Wd y → ¬ abC a cb Wd row undr y still j) ∧ ∃ t, zw (mf_aboveOf_B3 a cb Wd row undr y still) d n s = .inl t)
  | 0, s, h, _, _ => absurd h (Nat.not_lt_zero _)
  | n + 1, s, h, hs, hn => by
    have hl : abL Wd y ≤ 32 := by
      unfold abL
      split
      · decide
      · exact hN
    by_cases c : abL Wd y ≤ s
    · have e : s = abL Wd y := Nat.le_antisymm hs c
      refine Or.inr ⟨fun j hj => hn j (by omega), s, zw_r ?_⟩
      rw [ab_B, if_pos c]
    · by_cases q : abC a cb Wd row undr y still s
      · refine Or.inl ⟨s, by omega, q, hn, zw_r ?_⟩
        rw [ab_B, if_neg c, if_pos q.1, if_pos q.2]
      · have e : mf_aboveOf_B3 a cb Wd row undr y still s = .inl (s + 1) := by
          rw [ab_B, if_neg c]
          by_cases f : cb (1024 * y + (32 * s) + row) = 1
          · rw [if_pos f, if_neg (fun z => q ⟨f, z⟩)]
          · rw [if_neg f]
        rw [zw_l e]
        exact ab_run hN d n (s + 1) (by omega) (by omega) (fun j hj => by
          by_cases z : j = s
          · rw [z]; exact q
          · exact hn j (by omega))
theorem r_above {row y : Nat} {undr : Int32} {still : Bool} (hN : zpw Wd ≤ 32) : (∃ k, k < abL Wd y ∧ abC a cb Wd row undr y still k ∧ (∀ j, j < k → ¬ abC a cb Wd row undr y still j) ∧ mf_aboveOf a cb Wd row undr y still = nI k) ∨ ((∀ j, j < abL Wd y → ¬ abC a cb Wd row undr y still j) ∧ mf_aboveOf a cb Wd row undr y still = -1) := by
  unfold mf_aboveOf mf_aboveOf_L3
  rcases ab_run (a := a) (cb := cb) (Wd := Wd) (row := row) (y := y) (undr := undr) (still := still) hN (.inl 0) ((32 - 0) + 1) 0 (Nat.lt_succ_self _) (Nat.zero_le _) (fun j hj => absurd hj (Nat.not_lt_zero _)) with ⟨k, h1, h2, h3, h4⟩ | ⟨h1, t, h2⟩
  · exact Or.inl ⟨k, h1, h2, h3, by rw [h4]; rfl⟩
  · exact Or.inr ⟨h1, by rw [h2]; rfl⟩
theorem above_ne {row y s : Nat} {undr : Int32} {still : Bool} (hN : zpw Wd ≤ 32) (hs : s < abL Wd y) (hc : abC a cb Wd row undr y still s) : ¬ mf_aboveOf a cb Wd row undr y still = -1 := by
  have hl : abL Wd y ≤ 32 := by
    unfold abL
    split
    · decide
    · exact hN
  rcases r_above (a := a) (cb := cb) (Wd := Wd) (row := row) (y := y) (undr := undr) (still := still) hN with ⟨k, h1, h2, h3, h4⟩ | ⟨h1, _⟩
  · rw [h4]
    intro z
    have := nI_pos (n := k) (by omega)
    rw [z] at this
    exact this (by decide)
  · exact absurd hc (h1 s hs)
theorem pB_at {W : Nat → Nat → Nat → Nat} {y s row : Nat} (h : pB (zpw Wd) R cb W) (hy : y < R) (hs : s < 32) (hr : row < 32) : cb (1024 * y + (32 * s) + row) = 1 ↔ s < zpw Wd ∧ row < zpw Wd ∧ 0 < W y s row := by
  have e1 : (32 * s + row) / 32 = s := by omega
  have e2 : (32 * s + row) % 32 = row := by omega
  have := h y hy (32 * s + row) (by omega)
  rw [e1, e2, ← Nat.add_assoc] at this
  rw [this]
  constructor
  · intro q
    by_cases z : s < zpw Wd ∧ row < zpw Wd ∧ 0 < W y s row
    · exact z
    · rw [if_neg z] at q; exact absurd q (by decide)
  · intro q; rw [if_pos q]
theorem wN_0 {F : Nat → Nat → Bool} {Gd : Nat → Nat → Nat → Nat → Bool} {N i j : Nat} (h : 0 < wN F Gd N 0 i j) : i = 0 := by
  unfold wN at h
  by_cases c : i = 0 ∧ F j 0 = true
  · exact c.1
  · rw [if_neg c] at h; exact absurd h (Nat.lt_irrefl _)
theorem w_lim {still : Bool} {y i j : Nat} (hi : i < zpw Wd) (h : 0 < mWy a Wd still y i j) : i < abL Wd y := by
  unfold abL
  by_cases c : y = 0
  · subst c; rw [if_pos rfl, wN_0 h]; decide
  · rw [if_neg c]; exact hi
theorem tot_pos {still : Bool} (h : 0 < mTot a Wd R still) : ∃ i j, i < zpw Wd ∧ j < zpw Wd ∧ mGd a Wd still i j 0 (R - 1) = true ∧ 0 < mWy a Wd still (R - 1) i j := by
  obtain ⟨i, hi, h1⟩ := sm_pos _ h
  obtain ⟨j, hj, h2⟩ := sm_pos _ h1
  by_cases c : mGd a Wd still i j 0 (R - 1) = true
  · rw [if_pos c] at h2; exact ⟨i, j, hi, hj, c, h2⟩
  · rw [if_neg c] at h2; exact absurd h2 (Nat.lt_irrefl _)
theorem w_up {still : Bool} {y k row : Nat} (h : 0 < mWy a Wd still (y + 1) k row) : ∃ i, i < zpw Wd ∧ mGd a Wd still i k row y = true ∧ 0 < mWy a Wd still y i k := by
  have h : 0 < (if mFr a Wd row (y + 1) = true then zf (fun i s => s + (if mGd a Wd still i k row y = true then wN (mFr a Wd) (mGd a Wd still) (zpw Wd) y i k else 0)) 0 (zpw Wd) else 0) := h
  by_cases c : mFr a Wd row (y + 1) = true
  · rw [if_pos c] at h
    obtain ⟨i, hi, h1⟩ := sm_pos _ h
    by_cases d : mGd a Wd still i k row y = true
    · rw [if_pos d] at h1; exact ⟨i, hi, d, h1⟩
    · rw [if_neg d] at h1; exact absurd h1 (Nat.lt_irrefl _)
  · rw [if_neg c] at h; exact absurd h (Nat.lt_irrefl _)
theorem lst_a {still : Bool} (hN : zpw Wd ≤ 32) (hR0 : 1 ≤ R) (hB : pB (zpw Wd) R cb (mWy a Wd still)) (h : 0 < mTot a Wd R still) : ∃ r, r < 32 ∧ ¬ mf_aboveOf a cb Wd r 0 (R - 1) still = -1 := by
  obtain ⟨i, j, hi, hj, h1, h2⟩ := tot_pos h
  exact ⟨j, by omega, above_ne hN (w_lim hi h2) ⟨(pB_at hB (by omega) (by omega) (by omega)).mpr ⟨hi, hj, h2⟩, h1⟩⟩
theorem lst_b {still : Bool} (hN : zpw Wd ≤ 32) (hB : pB (zpw Wd) R cb (mWy a Wd still)) : ∀ (y row : Nat) (undr : Int32), 1 ≤ y → y < R → row < 32 → ¬ mf_aboveOf a cb Wd row undr y still = -1 → ¬ mf_aboveOf a cb Wd (mf_aboveOf a cb Wd row undr y still).toNatClampNeg (nI row) (y - 1) still = -1 := by
  intro y row undr h1 h2 h3 h4
  obtain ⟨y', rfl⟩ : ∃ y', y = y' + 1 := ⟨y - 1, by omega⟩
  rw [Nat.add_sub_cancel]
  rcases r_above (a := a) (cb := cb) (Wd := Wd) (row := row) (y := y' + 1) (undr := undr) (still := still) hN with ⟨k, k1, k2, k3, k4⟩ | ⟨_, k2⟩
  · rw [k4]
    have hk : k < zpw Wd := by
      unfold abL at k1
      rw [if_neg (by omega)] at k1
      exact k1
    rw [nI_clamp (show k < 2 ^ 31 by omega)]
    obtain ⟨_, hr, hw⟩ := (pB_at hB h2 (by omega) h3).mp k2.1
    obtain ⟨i, hi, g1, g2⟩ := w_up hw
    exact above_ne hN (w_lim hi g2) ⟨(pB_at hB (by omega) (by omega) (by omega)).mpr ⟨hi, hk, g2⟩, g1⟩
  · exact absurd k2 h4
theorem lN_0 {n : Nat} (h : ¬ lN n = 0) : 0 < n := by
  rcases Nat.eq_zero_or_pos n with q | q
  · rw [q] at h; exact absurd rfl h
  · exact q
theorem reck_a {still : Bool} {ways further : Nat → Int64} {cb0 : Nat → Int32} {t : Int64 × (Nat → Int64) × (Nat → Int64) × (Nat → Int32)} (hW5 : Wd ≤ 5) (hR0 : 1 ≤ R) (hR6 : R ≤ 6) (e : mf_reckons a ways further cb0 Wd R still = t) (h : ¬ t.1 = 0) : ∃ r, r < 32 ∧ ¬ mf_aboveOf a t.2.2.2 Wd r 0 (R - 1) still = -1 := by
  subst e
  obtain ⟨k1, k2⟩ := r_reckons (a := a) (still := still) (ways := ways) (further := further) (cb := cb0) (zpw_1 Wd (by omega)) (zpw_le Wd (by omega)) hR0 hR6
  rw [k1] at h
  exact lst_a (zpw_le Wd (by omega)) hR0 k2 (lN_0 h)
theorem reck_b {still : Bool} {ways further : Nat → Int64} {cb0 : Nat → Int32} {t : Int64 × (Nat → Int64) × (Nat → Int64) × (Nat → Int32)} (hW5 : Wd ≤ 5) (hR0 : 1 ≤ R) (hR6 : R ≤ 6) (e : mf_reckons a ways further cb0 Wd R still = t) : ∀ (y row : Nat) (undr : Int32), 1 ≤ y → y < R → row < 32 → ¬ mf_aboveOf a t.2.2.2 Wd row undr y still = -1 → ¬ mf_aboveOf a t.2.2.2 Wd (mf_aboveOf a t.2.2.2 Wd row undr y still).toNatClampNeg (nI row) (y - 1) still = -1 := by
  subst e
  obtain ⟨_, k2⟩ := r_reckons (a := a) (still := still) (ways := ways) (further := further) (cb := cb0) (zpw_1 Wd (by omega)) (zpw_le Wd (by omega)) hR0 hR6
  exact lst_b (zpw_le Wd (by omega)) k2
end R16
