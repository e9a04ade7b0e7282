/-! r6: the plain laws of ahead, rulesLeft, picture -/
section R6
variable {a b : Nat → Int32} {Wd R nr : Nat} {ulit umayor unight uoil : Int32} {uborn ustays useen : Nat → Int32} {thouses talways tnever : Int32} {tbeside : Nat → Int32}
theorem rr_picture (h : pH a Wd R nr ulit umayor unight uoil uborn ustays useen thouses talways tnever tbeside) : xf_picture ulit = mf_picture a := by
  unfold xf_picture mf_picture
  rw [h.2.1]
theorem rr_ahead {n : Int32} (h : pH a Wd R nr ulit umayor unight uoil uborn ustays useen thouses talways tnever tbeside) : (xf_ahead ulit umayor uborn ustays Wd R thouses talways tnever tbeside n).1 = (mf_ahead a b Wd R n).1 ∧ (xf_ahead ulit umayor uborn ustays Wd R thouses talways tnever tbeside n).2 = (mf_ahead a b Wd R n).2.1 := by
  unfold xf_ahead mf_ahead zlet
  dsimp only
  rw [r_in, r_after h, h.2.1]
  by_cases c : xf_isIn n.toInt64 0 999 = true
  · rw [if_pos c, if_pos c]; exact ⟨rfl, rfl⟩
  · rw [if_neg c, if_neg c]; exact ⟨rfl, rfl⟩
theorem rr_rulesLeft (h : pH a Wd R nr ulit umayor unight uoil uborn ustays useen thouses talways tnever tbeside) : xf_rulesLeft useen = mf_rulesLeft a := by
  have hs := h.2.2.2.2.2.2.2.2.2
  have e : zf (xf_rulesLeft_B9 useen) 1 10 = zf (mf_rulesLeft_B4 a) 1 10 := zf_congr 10 (fun k hk s => by
    unfold xf_rulesLeft_B9 mf_rulesLeft_B4
    rw [hs k hk])
  show (zf (xf_rulesLeft_B9 useen) 1 10, (0 : Int32)) = (zf (mf_rulesLeft_B4 a) 1 10, (0 : Int32))
  rw [e]
end R6
