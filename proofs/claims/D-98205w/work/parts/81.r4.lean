/-! r4: the plain laws of turn, bend, rule, citizen -/
theorem i_msk {z : Int32} {j : Nat} (hj : j < 32) : (z &&& ((1 : Int32) <<< (nI j &&& 31))) = 0 ↔ bt z j = false := by
  constructor
  · intro h
    have := congrArg (fun q => bt q j) h
    simp only [b_and, b_0, bt_s hj hj] at this
    simpa using this
  · intro h
    refine b_ext fun i hi => ?_
    rw [b_and, bt_s hj hi, b_0]
    by_cases d : i = j
    · subst d; simp [h]
    · simp [d]
section R4
variable {a b : Nat → Int32} {Wd R nr : Nat} {ulit umayor unight uoil : Int32} {uborn ustays useen : Nat → Int32} {thouses talways tnever : Int32} {tbeside : Nat → Int32}
theorem whyStuck_0 {x y : Int32} (h : xf_whyStuck Wd R thouses talways tnever x y ≤ 0) : xf_whyStuck Wd R thouses talways tnever x y = 0 ∧ (((thouses &&& ((talways ||| tnever) ^^^ (-1))) >>> ((nI Wd * y + x) &&& 31)) &&& 1) = 1 := by
  unfold xf_whyStuck at h ⊢
  by_cases c : xf_isPlace Wd R x y = true
  · rw [if_pos c] at h ⊢
    by_cases d : (((thouses &&& ((talways ||| tnever) ^^^ (-1))) >>> ((nI Wd * y + x) &&& 31)) &&& 1) = 1
    · rw [if_pos d]; exact ⟨rfl, d⟩
    · rw [if_neg d] at h; exact absurd h (by decide)
  · rw [if_neg c] at h; exact absurd h (by decide)
theorem free_flip {k : Int32} (hf : (((thouses &&& ((talways ||| tnever) ^^^ (-1))) >>> (k &&& 31)) &&& 1) = 1) (h : ulit &&& (talways ||| tnever) = talways) : (ulit ^^^ ((1 : Int32) <<< (k &&& 31))) &&& (talways ||| tnever) = talways := by
  rw [i_tst1] at hf
  obtain ⟨j, hj, e⟩ := i_sh k
  rw [e, i_msk hj, b_and, b_xor, b_m1 j hj] at hf
  rw [e]
  refine b_ext fun i hi => ?_
  have hu := congrArg (fun q => bt q i) h
  simp only [b_and] at hu
  rw [b_and, b_xor, bt_s hj hi]
  by_cases c : i = j
  · subst c
    cases hs : bt (talways ||| tnever) i
    · rw [hs] at hu; simp at hu; simp [hu]
    · rw [hs] at hf; simp at hf
  · rw [← hu]; simp [c]
theorem pH_stuck (h : pH a Wd R nr ulit umayor unight uoil uborn ustays useen thouses talways tnever tbeside) : ulit &&& (talways ||| tnever) = talways := by
  have := h.2.2.1
  rw [h.2.1, h.1.2.1] at this
  exact this
theorem rr_turn {x y : Int32} (h : pH a Wd R nr ulit umayor unight uoil uborn ustays useen thouses talways tnever tbeside) (hsub : thouses &&& (talways ||| tnever) = (talways ||| tnever)) (hW0 : 1 ≤ Wd) (hW5 : Wd ≤ 5) (hR0 : 1 ≤ R) (hR6 : R ≤ 6) : (xf_turn ulit Wd R thouses talways tnever x y).1 = (mf_turn a Wd R x y).1 ∧ (xf_turn ulit Wd R thouses talways tnever x y).2.1 = (mf_turn a Wd R x y).2.1 ∧ pH (mf_turn a Wd R x y).2.2 Wd R nr (xf_turn ulit Wd R thouses talways tnever x y).2.2 umayor unight uoil uborn ustays useen thouses talways tnever tbeside := by
  unfold xf_turn mf_turn
  rw [r_wrongLamp h.1 hsub hW0 hW5 hR0 hR6, h.2.1]
  by_cases c : xf_whyStuck Wd R thouses talways tnever x y ≤ 0
  · obtain ⟨w, f⟩ := whyStuck_0 c
    have hp := pH_lit h (free_flip f (pH_stuck h))
    rw [if_pos c, if_pos c, w]
    unfold mf_bitOf
    by_cases d : ((ulit ^^^ ((1 : Int32) <<< ((nI Wd * y + x) &&& 31))) &&& ((1 : Int32) <<< ((nI Wd * y + x) &&& 31))) = 0
    · rw [if_pos d]; exact ⟨(i_tst _ _).mpr d, rfl, hp⟩
    · rw [if_neg d]; exact ⟨(i_tst1 _ _).mpr d, rfl, hp⟩
  · rw [if_neg c, if_neg c]
    exact ⟨rfl, rfl, h⟩
theorem pH_rule {k : Nat} {x y : Int32} (h : pH a Wd R nr ulit umayor unight uoil uborn ustays useen thouses talways tnever tbeside) (hk : k < 4) : pH (upd (upd a (12 + (2 * k)) x) (12 + (2 * k) + 1) y) Wd R nr ulit umayor unight uoil (upd uborn k x) (upd ustays k y) useen thouses talways tnever tbeside := by
  obtain ⟨⟨t1, t2, t3⟩, h3, h34, h7, h8, h10, hm, hr, hb, hs⟩ := h
  have u : ∀ j, (j < 12 ∨ 20 ≤ j) → upd (upd a (12 + (2 * k)) x) (12 + (2 * k) + 1) y j = a j := fun j hj => by rw [pk_un (by omega), pk_un (by omega)]
  refine ⟨⟨by rw [u 2 (by omega)]; exact t1, by rw [u 4 (by omega)]; exact t2, fun j hj => by rw [t3 j hj]; exact (mf_near_same (u 2 (by omega)) (u 9 (by omega)) j).symm⟩, by rw [u 3 (by omega)]; exact h3, by rw [u 3 (by omega), u 4 (by omega)]; exact h34, by rw [u 7 (by omega)]; exact h7, by rw [u 8 (by omega)]; exact h8, by rw [u 10 (by omega)]; exact h10, hm, hr, fun j hj => ?_, fun j hj => by rw [u _ (by omega)]; exact hs j hj⟩
  by_cases e : j = k
  · subst e
    rw [pk_us, pk_us, pk_us, pk_un (by omega), pk_us]
    exact ⟨rfl, rfl⟩
  · rw [pk_un (show ¬ 12 + 2 * j = 12 + 2 * k + 1 by omega), pk_un (show ¬ 12 + 2 * j = 12 + 2 * k by omega), pk_un (show ¬ 12 + 2 * j + 1 = 12 + 2 * k + 1 by omega), pk_un (show ¬ 12 + 2 * j + 1 = 12 + 2 * k by omega), pk_un e, pk_un e]
    exact hb j hj
theorem rr_bend {ru x y : Int32} (h : pH a Wd R nr ulit umayor unight uoil uborn ustays useen thouses talways tnever tbeside) (h0 : 0 < nr) : (xf_bend uborn ustays nr ru x y).1 = (mf_bend a nr ru x y).1 ∧ (xf_bend uborn ustays nr ru x y).2.1 = (mf_bend a nr ru x y).2.1 ∧ pH (mf_bend a nr ru x y).2.2 Wd R nr ulit umayor unight uoil (xf_bend uborn ustays nr ru x y).2.2.1 (xf_bend uborn ustays nr ru x y).2.2.2 useen thouses talways tnever tbeside := by
  have hr := h.2.2.2.2.2.2.2.1
  unfold xf_bend mf_bend
  rw [r_rule h0 hr, r_in, r_in]
  by_cases c : xf_isRule nr ru = true
  · rw [if_pos c, if_pos c]
    by_cases d : xf_isIn x.toInt64 0 31 = true
    · rw [if_pos d, if_pos d]
      by_cases e : xf_isIn y.toInt64 0 31 = true
      · rw [if_pos e, if_pos e]
        have := (xIn_1 h0 (by omega) c).2
        exact ⟨rfl, rfl, pH_rule h (by omega)⟩
      · rw [if_neg e, if_neg e]; exact ⟨rfl, rfl, h⟩
    · rw [if_neg d, if_neg d]; exact ⟨rfl, rfl, h⟩
  · rw [if_neg c, if_neg c]; exact ⟨rfl, rfl, h⟩
end R4
