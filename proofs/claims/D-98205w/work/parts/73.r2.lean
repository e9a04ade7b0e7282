/-! r2: single bits; places; the plain laws of the small operations -/
theorem bt_1 : ∀ i, i < 32 → bt 1 i = decide (i = 0) := by decide +kernel
theorem i_31 : ∀ j, j < 32 → nI j &&& 31 = nI j := by decide +kernel
theorem i_sh (k : Int32) : ∃ j, j < 32 ∧ k &&& 31 = nI j &&& 31 := by
  obtain ⟨j, hj, e⟩ := pk_andE k (m := 31) 5 (by decide)
  exact ⟨j, by omega, by rw [e, i_31 j (by omega)]⟩
theorem bt_s {j i : Nat} (hj : j < 32) (hi : i < 32) : bt ((1 : Int32) <<< (nI j &&& 31)) i = decide (i = j) := by
  rw [b_shl j hj 1 hi, bt_1 _ (by omega)]
  by_cases c : j ≤ i
  · by_cases d : i = j
    · subst d; simp
    · have : ¬ i - j = 0 := by omega
      simp [c, d, this]
  · have : ¬ i = j := by omega
    simp [c, this]
/-- a bit by shifting, a bit by masking -/
theorem i_tst (x k : Int32) : ((x >>> (k &&& 31)) &&& 1) = 0 ↔ (x &&& ((1 : Int32) <<< (k &&& 31))) = 0 := by
  obtain ⟨j, hj, e⟩ := i_sh k
  rw [e]
  have L : bt ((x >>> (nI j &&& 31)) &&& 1) 0 = bt x j := by
    rw [b_and, b_sshr j hj x (by omega), bt_1 0 (by omega), if_pos (by omega), Nat.add_zero]
    simp
  constructor
  · intro h
    refine b_ext fun i hi => ?_
    rw [b_and, bt_s hj hi, b_0]
    by_cases c : i = j
    · subst c
      have := congrArg (fun z => bt z 0) h
      rw [show bt ((x >>> (nI i &&& 31)) &&& 1) 0 = bt x i from L] at this
      simp only [b_0] at this
      simp [this]
    · simp [c]
  · intro h
    refine b_ext fun i hi => ?_
    by_cases c : i = 0
    · subst c
      rw [L, b_0]
      have := congrArg (fun z => bt z j) h
      simp only [b_and, b_0, bt_s hj hj] at this
      simpa using this
    · rw [b_and, bt_1 i hi, b_0]; simp [c]
theorem i_tst1 (x k : Int32) : ((x >>> (k &&& 31)) &&& 1) = 1 ↔ ¬ (x &&& ((1 : Int32) <<< (k &&& 31))) = 0 := by
  rw [← i_tst]
  rcases z_b01 (x >>> (k &&& 31)) with h | h <;> rw [h] <;> decide
theorem r_in1 {x : Int32} {N : Nat} (h0 : 0 < N) (hN : N < 2 ^ 31) : xf_isIn x.toInt64 0 (((nI N) - 1).toInt64) = true ↔ (¬ x < 0 ∧ ¬ nI N ≤ x) := by
  constructor
  · intro h
    obtain ⟨h1, h2⟩ := xIn_1 h0 hN h
    refine ⟨h1, fun q => ?_⟩
    rw [z_nn h1] at q
    exact absurd ((nI_leI hN (z_nb h1)).mp q) (by omega)
  · rintro ⟨h1, h2⟩
    have hv := z_nge N hN h1 h2
    have hb := z_nb h1
    have e := z_nn h1
    generalize x.toNatClampNeg = v at hv hb e
    subst e
    have e1 : (nI N) - 1 = nI (N - 1) := pk_sub (show 1 ≤ N by omega)
    unfold xf_isIn
    rw [e1, nI_l hb, nI_l (by omega), if_neg (show ¬ lN v < 0 from fun q => absurd ((pk_lLT (by omega) (by omega)).mp (show lN v < lN 0 from q)) (by omega)), if_neg (show ¬ lN (N - 1) < lN v from fun q => absurd ((pk_lLT (by omega) (by omega)).mp q) (by omega))]
theorem r_place {Wd R : Nat} {x y : Int32} (hW0 : 1 ≤ Wd) (hW5 : Wd ≤ 5) (hR0 : 1 ≤ R) (hR6 : R ≤ 6) : mf_isPlace Wd R x y = xf_isPlace Wd R x y := by
  have e1 := r_in1 (x := x) (N := Wd) (by omega) (by omega)
  have e2 := r_in1 (x := y) (N := R) (by omega) (by omega)
  unfold mf_isPlace xf_isPlace
  by_cases c1 : x < 0
  · rw [if_pos c1, if_neg (fun q => (e1.mp q).1 c1)]
  · rw [if_neg c1]
    by_cases c2 : nI Wd ≤ x
    · rw [if_pos c2, if_neg (fun q => (e1.mp q).2 c2)]
    · rw [if_neg c2, if_pos (e1.mpr ⟨c1, c2⟩)]
      by_cases c3 : y < 0
      · rw [if_pos c3, if_neg (fun q => (e2.mp q).1 c3)]
      · rw [if_neg c3]
        by_cases c4 : nI R ≤ y
        · rw [if_pos c4, if_neg (fun q => (e2.mp q).2 c4)]
        · rw [if_neg c4, if_pos (e2.mpr ⟨c3, c4⟩)]
theorem r_rule {nr : Nat} {ru : Int32} (h0 : 0 < nr) (h4 : nr ≤ 4) : mf_isRule nr ru = xf_isRule nr ru := by
  have e1 := r_in1 (x := ru) (N := nr) h0 (by omega)
  unfold mf_isRule xf_isRule
  by_cases c1 : ru < 0
  · rw [if_pos c1]
    exact (Bool.eq_false_iff.mpr (fun q => (e1.mp q).1 c1)).symm
  · rw [if_neg c1]
    by_cases c2 : nI nr ≤ ru
    · rw [if_pos c2]; exact (Bool.eq_false_iff.mpr (fun q => (e1.mp q).2 c2)).symm
    · rw [if_neg c2]; exact (e1.mpr ⟨c1, c2⟩).symm
section R2
variable {a b : Nat → Int32} {Wd R nr : Nat} {ulit umayor unight uoil : Int32} {uborn ustays useen : Nat → Int32} {thouses talways tnever : Int32} {tbeside : Nat → Int32}
theorem r_wrongHouse {x y : Int32} (hT : pT a Wd R thouses talways tnever tbeside) (hW0 : 1 ≤ Wd) (hW5 : Wd ≤ 5) (hR0 : 1 ≤ R) (hR6 : R ≤ 6) : mf_wrongHouse a Wd R x y = xf_whyNoHouse Wd R thouses x y := by
  unfold mf_wrongHouse xf_whyNoHouse tf_isHouse mf_bitOf
  rw [r_place hW0 hW5 hR0 hR6, hT.1]
  by_cases c : xf_isPlace Wd R x y = true
  · rw [if_pos c, if_pos c]
    by_cases d : thouses &&& ((1 : Int32) <<< ((nI Wd * y + x) &&& 31)) = 0
    · rw [if_pos d, if_neg (fun q => (i_tst1 _ _).mp q d)]; rfl
    · rw [if_neg d, if_pos ((i_tst1 _ _).mpr d)]; rfl
  · rw [if_neg c, if_neg c]
end R2
