/-! r50: a year lived or meant without a year or with a bad seed; slots kept -/
section R50
variable {a b lo ra to : Nat → Int32} {Wd R nr nc nn : Nat} {seed many dd rx : Int32} {it : Bool} {tp bo : Int64}
theorem live_bad (h : ¬ xf_isIn seed.toInt64 0 9999 = true) : mf_live dd rx it a b lo ra to Wd R nr nc nn seed = ((-1), 1, dd, rx, it, a, b, lo, ra, to) := by
  unfold mf_live
  rw [if_neg (show ¬ mf_isFrom seed.toInt64 0 9999 = true from h)]
theorem live_none (h : xf_isIn seed.toInt64 0 9999 = true) (h11 : a 11 = -1) : mf_live dd rx it a b lo ra to Wd R nr nc nn seed = ((-1), 6, dd, rx, it, a, b, lo, ra, to) := by
  unfold mf_live
  rw [if_pos (show mf_isFrom seed.toInt64 0 9999 = true from h), if_pos h11]
theorem mean_e {mn : Nat} (h1 : 1 ≤ mn) (h2 : mn ≤ 20) : (((9999 : Int32) - nI mn) + 1).toInt64 = lN (10000 - mn) := by
  have key : ∀ m, m < 21 → (((9999 : Int32) - nI m) + 1) = nI (10000 - m) := by decide +kernel
  rw [key mn (by omega), nI_l (by omega)]
theorem mean_in (h1 : xf_isIn many.toInt64 1 20 = true) : xf_isIn seed.toInt64 0 ((9999 - many) + 1).toInt64 = true ↔ (mf_isFrom seed.toInt64 0 9999 = true ∧ (seed + many) - 1 ≤ 9999) := by
  obtain ⟨m0, m1, m2⟩ := xIn_t (a := 1) (N := 20) (by decide) (by decide) h1
  obtain ⟨mn, hmn⟩ : ∃ mn, many.toNatClampNeg = mn := ⟨_, rfl⟩
  have em := z_nn m0
  rw [hmn] at em m1 m2
  subst em
  have hs : mf_isFrom seed.toInt64 0 9999 = true ↔ (¬ seed < 0 ∧ ¬ nI 9999 < seed) := r_in2 (N := 9999) (by decide)
  rw [mean_e m1 m2, r_in2 (by omega), hs]
  constructor
  · intro h
    obtain ⟨h3, h4⟩ := h
    have e := z_nn h3
    obtain ⟨sd, hsd⟩ : ∃ sd, seed.toNatClampNeg = sd := ⟨_, rfl⟩
    rw [hsd] at e
    have l1 : sd ≤ 10000 - mn := by rw [← hsd]; exact z_ngt _ (by omega) h3 h4
    subst e
    refine ⟨⟨h3, fun q => ?_⟩, ?_⟩
    · exact absurd ((nI_ltI (by decide) (by omega)).mp q) (by omega)
    · have e2 : (nI sd + nI mn) - 1 = nI (sd + mn - 1) := by
        rw [nI_add, show sd + mn = (sd + mn - 1) + 1 by omega, ← nI_1]
        exact Int32.add_sub_cancel _ _
      rw [e2]
      exact nI_le (b := 9999) (by omega) (by decide)
  · intro h
    obtain ⟨⟨h3, h4⟩, h5⟩ := h
    have e := z_nn h3
    obtain ⟨sd, hsd⟩ : ∃ sd, seed.toNatClampNeg = sd := ⟨_, rfl⟩
    rw [hsd] at e
    have l1 : sd ≤ 9999 := by rw [← hsd]; exact z_ngt _ (by omega) h3 h4
    subst e
    refine ⟨h3, fun q => ?_⟩
    have e2 : (nI sd + nI mn) - 1 = nI (sd + mn - 1) := by
      rw [nI_add, show sd + mn = (sd + mn - 1) + 1 by omega, ← nI_1]
      exact Int32.add_sub_cancel _ _
    rw [e2] at h5
    have l2 : sd + mn - 1 ≤ 9999 := (nI_leI (by omega) (by decide)).mp h5
    have l3 := (nI_ltI (by omega) (by omega)).mp q
    omega
theorem mean_bad (h : ¬ (xf_isIn many.toInt64 1 20 = true ∧ xf_isIn seed.toInt64 0 ((9999 - many) + 1).toInt64 = true)) : mf_mean tp bo dd rx a b lo ra Wd R nr nc nn seed many = (false, 1, tp, bo, dd, rx, a, b, lo, ra) := by
  unfold mf_mean
  by_cases c1 : mf_isFrom seed.toInt64 0 9999 = true
  · rw [if_pos c1]
    by_cases c2 : mf_isFrom many.toInt64 1 20 = true
    · rw [if_pos c2]
      by_cases c3 : (seed + many) - 1 ≤ 9999
      · exact absurd ⟨c2, (mean_in c2).mpr ⟨c1, c3⟩⟩ h
      · rw [if_neg c3]
    · rw [if_neg c2]
  · rw [if_neg c1]
theorem mean_none (h1 : xf_isIn many.toInt64 1 20 = true) (h2 : xf_isIn seed.toInt64 0 ((9999 - many) + 1).toInt64 = true) (h11 : a 11 = -1) : mf_mean tp bo dd rx a b lo ra Wd R nr nc nn seed many = (false, 6, tp, bo, dd, rx, a, b, lo, ra) := by
  obtain ⟨c1, c3⟩ := (mean_in h1).mp h2
  unfold mf_mean
  rw [if_pos c1, if_pos (show mf_isFrom many.toInt64 1 20 = true from h1), if_pos c3, if_pos h11]
variable {hou alw nev lit mayor night oil : Int32} {ring : Bool} {be le mo bo_ st se : Nat → Int32} {rn cn nm : Nat → Int64}
theorem near_4 (hW : Wd ≤ 5) (hR : R ≤ 6) {k : Nat} (hk : k < Wd * R) : zpc (mf_near a Wd R k) ≤ 4 := by
  have h30 : Wd * R ≤ 5 * 6 := Nat.mul_le_mul hW hR
  rw [mf_near_eq, Int32.and_comm]
  exact Nat.le_trans (zpc_and_r _ _) (zN_le (by omega) (by omega) (by omega))
theorem sTw_be (h : sTw a nm Wd R nr nc hou alw nev ring be le mo rn cn) : ∀ k, k < Wd * R → zpc (be k) ≤ 4 := by
  obtain ⟨⟨h1, h2, h3, h4, -⟩, -, -, hT, -⟩ := h
  intro k hk
  rw [hT.2.2 k hk]
  exact near_4 h2 h4 hk
theorem slot_ok (h : sTw a nm Wd R nr nc hou alw nev ring be le mo rn cn) (h2 : sHl a Wd R nr lit mayor night oil bo_ st se hou alw nev be) : mOK a Wd R nr nc := by
  obtain ⟨⟨t1, t2, t3, t4, t5, t6, -⟩, ⟨e0, e1, e5, e6⟩, -⟩ := h
  obtain ⟨⟨-, -, -, -, -, h10, hm, -⟩, -⟩ := h2
  exact ⟨⟨e0, t1, t2⟩, ⟨e1, t3, t4⟩, ⟨e5, t5⟩, ⟨e6, t6⟩, by rw [h10]; exact hm⟩
/-- places of a slot that a town's own work leaves alone -/
def kOff (j : Nat) : Prop := ¬ j = 3 ∧ ¬ j = 7 ∧ ¬ j = 8 ∧ ¬ j = 10 ∧ ¬ (12 ≤ j ∧ j < 20) ∧ ¬ (32 ≤ j ∧ j < 42)
theorem sTw_keep {a' : Nat → Int32} {nm' : Nat → Int64} (e0 : ∀ j, kOff j → ¬ j = 11 → j < 32 → a' j = a j) (en : ∀ k, k < 10 → nm' k = nm k) (h : sTw a nm Wd R nr nc hou alw nev ring be le mo rn cn) : sTw a' nm' Wd R nr nc hou alw nev ring be le mo rn cn := by
  have e : ∀ j, kOff j ∧ ¬ j = 11 → j < 32 → a' j = a j := fun j hj h2 => e0 j hj.1 hj.2 h2
  obtain ⟨ht, ⟨q0, q1, q5, q6⟩, q9, ⟨p2, p4, pn⟩, hC, hk, hw, n1, n2⟩ := h
  have x2 := e 2 (by unfold kOff; omega) (by omega)
  have x9 := e 9 (by unfold kOff; omega) (by omega)
  have t5 := ht.2.2.2.2.1
  have t6 := ht.2.2.2.2.2.1
  refine ⟨ht, ⟨(e 0 (by unfold kOff; omega) (by omega)).trans q0, (e 1 (by unfold kOff; omega) (by omega)).trans q1, (e 5 (by unfold kOff; omega) (by omega)).trans q5, (e 6 (by unfold kOff; omega) (by omega)).trans q6⟩, x9.trans q9, ⟨x2.trans p2, (e 4 (by unfold kOff; omega) (by omega)).trans p4, fun k hk => ?_⟩, ⟨hC.1, fun k hk => ⟨?_, ?_⟩⟩, hk, hw, fun k hk => ?_, fun k hk => ?_⟩
  · rw [pn k hk, mf_near_eq, mf_near_eq, x2, x9]
  · rw [e _ (by unfold kOff; omega) (by omega)]; exact (hC.2 k hk).1
  · rw [e _ (by unfold kOff; omega) (by omega)]; exact (hC.2 k hk).2
  · rw [en k (by omega)]; exact n1 k hk
  · rw [en _ (by omega)]; exact n2 k hk
theorem mROW_keep {a' : Nat → Int32} {k : Nat} (hk : k < nn) (e : ∀ j, 44 ≤ j → j < 44 + 6 * nn → a' j = a j) (h : mROW a nr nn k) : mROW a' nr nn k := by
  obtain ⟨h1, h2, h3, h4, h5⟩ := h
  have x0 := e (44 + 6 * k) (by omega) (by omega)
  have x1 := e (44 + 6 * k + 1) (by omega) (by omega)
  have x4 := e (44 + 6 * k + 4) (by omega) (by omega)
  unfold mROW
  rw [x0, x1, x4]
  refine ⟨h1, h2, h3, fun q => ?_, h5⟩
  obtain ⟨g1, g2, g3⟩ := h4 q
  refine ⟨g1, g2, fun z => g3 ?_⟩
  rw [← e _ (by omega) (by omega)]
  exact z
theorem sYr_keep {a' : Nat → Int32} {ys : Option (List (yT 3))} (hok : mOK a' Wd R nr nc) (e11 : a' 11 = a 11) (e : ∀ j, 44 ≤ j → j < 405 → a' j = a j) (h : sYr a Wd R nr nc ys) : sYr a' Wd R nr nc ys := by
  cases ys with
  | none => exact e11.trans h
  | some cs =>
    obtain ⟨nn, ⟨-, y2, y3, y4⟩, h2, h3⟩ := h
    refine ⟨nn, ⟨hok, e11.trans y2, y3, fun k hk => mROW_keep hk (fun j j1 j2 => e j j1 (by omega)) (y4 k hk)⟩, ?_, h3⟩
    exact yEncs_same (N := nn) (yEnc_lt 3) (yEnc_same (fun j j1 j2 => e j j1 (by omega)) 3) cs 0 nn h2 (Nat.le_refl _)
theorem pH_k {a' : Nat → Int32} (e : ∀ j, j < 44 → ¬ j = 11 → a' j = a j) (h : pH a Wd R nr lit mayor night oil bo_ st se hou alw nev be) : pH a' Wd R nr lit mayor night oil bo_ st se hou alw nev be := by
  obtain ⟨⟨h2, h4, hn⟩, h3, h34, h7, h8, h10, hm, hr, hbb, hss⟩ := h
  refine ⟨⟨?_, ?_, fun k hk => ?_⟩, ?_, ?_, ?_, ?_, ?_, hm, hr, fun k hk => ⟨?_, ?_⟩, fun k hk => ?_⟩
  · rw [e 2 (by omega) (by omega)]; exact h2
  · rw [e 4 (by omega) (by omega)]; exact h4
  · rw [hn k hk]; exact (mf_near_same (e 2 (by omega) (by omega)) (e 9 (by omega) (by omega)) k).symm
  · rw [e 3 (by omega) (by omega)]; exact h3
  · rw [e 3 (by omega) (by omega), e 4 (by omega) (by omega)]; exact h34
  · rw [e 7 (by omega) (by omega)]; exact h7
  · rw [e 8 (by omega) (by omega)]; exact h8
  · rw [e 10 (by omega) (by omega)]; exact h10
  · rw [e _ (by omega) (by omega)]; exact (hbb k hk).1
  · rw [e _ (by omega) (by omega)]; exact (hbb k hk).2
  · rw [e _ (by omega) (by omega)]; exact hss k hk
end R50
