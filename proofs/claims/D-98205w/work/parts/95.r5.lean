/-! r5: the plain laws of rule, next, still -/
theorem r_in2 {x : Int32} {N : Nat} (hN : N < 2 ^ 31) : xf_isIn x.toInt64 0 (lN N) = true ↔ (¬ x < 0 ∧ ¬ nI N < x) := by
  constructor
  · intro h
    obtain ⟨h1, -, h2⟩ := xIn_t (x := x) (a := 0) (N := N) (by decide) hN h
    refine ⟨h1, fun q => ?_⟩
    rw [z_nn h1] at q
    exact absurd ((nI_ltI hN (z_nb h1)).mp q) (by omega)
  · rintro ⟨h1, h2⟩
    have hv := z_ngt N hN h1 h2
    have hb := z_nb h1
    have e := z_nn h1
    generalize x.toNatClampNeg = v at hv hb e
    subst e
    unfold xf_isIn
    rw [nI_l hb, if_neg (show ¬ lN v < 0 from fun q => absurd ((pk_lLT (by omega) (by omega)).mp (show lN v < lN 0 from q)) (by omega)), if_neg (show ¬ lN N < lN v from fun q => absurd ((pk_lLT (by omega) (by omega)).mp q) (by omega))]
theorem i_one {x : Int32} (h1 : ¬ x < 0) (h2 : ¬ 1 < x) (h0 : ¬ x = 0) : x.toNatClampNeg = 1 := by
  have hv := z_ngt 1 (by decide) h1 (show ¬ nI 1 < x from h2)
  have e := z_nn h1
  generalize x.toNatClampNeg = v at hv e
  have : ¬ v = 0 := fun q => h0 (by rw [e, q]; rfl)
  omega
section R5
variable {a b : Nat → Int32} {Wd R nr : Nat} {ulit umayor unight uoil : Int32} {uborn ustays useen : Nat → Int32} {thouses talways tnever : Int32} {tbeside : Nat → Int32}
theorem rr_rule {ru what : Int32} (h : pH a Wd R nr ulit umayor unight uoil uborn ustays useen thouses talways tnever tbeside) (h0 : 0 < nr) : xf_rule uborn ustays nr ru what = mf_rule a nr ru what := by
  have hr := h.2.2.2.2.2.2.2.1
  have hb := h.2.2.2.2.2.2.2.2.1
  have e1 : xf_isIn what.toInt64 0 1 = true ↔ (¬ what < 0 ∧ ¬ 1 < what) := r_in2 (x := what) (N := 1) (by decide)
  unfold xf_rule mf_rule
  rw [r_rule h0 hr]
  by_cases c : xf_isRule nr ru = true
  · rw [if_pos c, if_pos c]
    obtain ⟨u1, u2⟩ := hb ru.toNatClampNeg (by have := (xIn_1 h0 (by omega) c).2; omega)
    by_cases d : what < 0
    · rw [if_pos d, if_neg (fun q => (e1.mp q).1 d)]
    · rw [if_neg d]
      by_cases e : 1 < what
      · rw [if_pos e, if_neg (fun q => (e1.mp q).2 e)]
      · rw [if_neg e, if_pos (e1.mpr ⟨d, e⟩)]
        by_cases f : what = 0
        · rw [if_pos f, f, show ((0 : Int32)).toNatClampNeg = 0 from rfl, Nat.add_zero, u1]
        · rw [if_neg f, i_one d e f, u2]
  · rw [if_neg c, if_neg c]
theorem r_after1 {pic : Int32} (h : pH a Wd R nr ulit umayor unight uoil uborn ustays useen thouses talways tnever tbeside) : (mf_after a b Wd R pic 1).1 = hf_next umayor uborn ustays Wd R thouses talways tnever tbeside pic := r_after h
theorem rr_still (h : pH a Wd R nr ulit umayor unight uoil uborn ustays useen thouses talways tnever tbeside) : (xf_still ulit umayor uborn ustays Wd R thouses talways tnever tbeside).1 = (mf_still a b Wd R).1 ∧ (xf_still ulit umayor uborn ustays Wd R thouses talways tnever tbeside).2 = (mf_still a b Wd R).2.1 := by
  unfold xf_still mf_still mf_isStill zlet
  dsimp only
  rw [r_after1 h, h.2.1]
  by_cases c : hf_next umayor uborn ustays Wd R thouses talways tnever tbeside ulit = ulit
  · rw [if_pos c, if_pos c]; exact ⟨rfl, rfl⟩
  · rw [if_neg c, if_neg c]; exact ⟨rfl, rfl⟩
theorem rr_next {what : Int32} (h : pH a Wd R nr ulit umayor unight uoil uborn ustays useen thouses talways tnever tbeside) : (xf_next ulit umayor uborn ustays Wd R thouses talways tnever tbeside what).1 = (mf_next a b Wd R what).1 ∧ (xf_next ulit umayor uborn ustays Wd R thouses talways tnever tbeside what).2 = (mf_next a b Wd R what).2.1 := by
  have e1 : xf_isIn what.toInt64 0 2 = true ↔ (¬ what < 0 ∧ ¬ 2 < what) := r_in2 (x := what) (N := 2) (by decide)
  unfold xf_next mf_next zlet
  dsimp only
  rw [r_after1 h, h.2.1]
  by_cases d : what < 0
  · rw [if_pos d, if_neg (fun q => (e1.mp q).1 d)]; exact ⟨rfl, rfl⟩
  · rw [if_neg d]
    by_cases e : what ≤ 2
    · rw [if_pos e, if_pos (e1.mpr ⟨d, Int32.not_lt.mpr e⟩)]
      by_cases f : what = 0
      · rw [if_pos f, if_pos f]; exact ⟨rfl, rfl⟩
      · rw [if_neg f, if_neg f]
        by_cases g : what = 1
        · rw [if_pos g, if_pos g]; exact ⟨rfl, rfl⟩
        · rw [if_neg g, if_neg g]; exact ⟨rfl, rfl⟩
    · rw [if_neg e, if_neg (fun q => (e1.mp q).2 (Int32.not_le.mp e))]; exact ⟨rfl, rfl⟩
end R5
