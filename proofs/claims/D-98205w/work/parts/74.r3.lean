/-! r3: the plain laws of the small operations -/
section R3
variable {a b : Nat → Int32} {Wd R nr : Nat} {ulit umayor unight uoil : Int32} {uborn ustays useen : Nat → Int32} {thouses talways tnever : Int32} {tbeside : Nat → Int32}
theorem r_wrongLamp {x y : Int32} (hT : pT a Wd R thouses talways tnever tbeside) (hsub : thouses &&& (talways ||| tnever) = (talways ||| tnever)) (hW0 : 1 ≤ Wd) (hW5 : Wd ≤ 5) (hR0 : 1 ≤ R) (hR6 : R ≤ 6) : mf_wrongLamp a Wd R x y = xf_whyStuck Wd R thouses talways tnever x y := by
  unfold mf_wrongLamp xf_whyStuck
  rw [r_wrongHouse hT hW0 hW5 hR0 hR6, hT.2.1]
  unfold xf_whyNoHouse tf_isHouse mf_bitOf
  by_cases c : xf_isPlace Wd R x y = true
  · rw [if_pos c, if_pos c]
    generalize (nI Wd * y + x) = k
    obtain ⟨j, hj, e⟩ := i_sh k
    have B : ∀ z : Int32, (z &&& ((1 : Int32) <<< (k &&& 31))) = 0 ↔ bt z j = false := by
      intro z
      rw [e]
      constructor
      · intro h
        have := congrArg (fun q => bt q j) h
        simp only [b_and, b_0, bt_s hj hj] at this
        simpa using this
      · intro h
        refine b_ext fun i hi => ?_
        rw [b_and, bt_s hj hi, b_0]
        by_cases d : i = j
        · subst d; simp [h]
        · simp [d]
    have hs := congrArg (fun q => bt q j) hsub
    simp only [b_and] at hs
    have T1 : (((thouses >>> (k &&& 31)) &&& 1) = 1) ↔ bt thouses j = true := by
      rw [i_tst1, B]; simp
    have T2 : (((thouses &&& ((talways ||| tnever) ^^^ (-1))) >>> (k &&& 31)) &&& 1) = 1 ↔ (bt thouses j = true ∧ bt (talways ||| tnever) j = false) := by
      rw [i_tst1, B, b_and, b_xor, b_m1 j hj]
      cases bt thouses j <;> cases bt (talways ||| tnever) j <;> simp
    by_cases d : bt thouses j = true
    · rw [if_pos (T1.mpr d), if_pos (show true = true from rfl), if_pos (show (0 : Int32) ≤ 0 by decide)]
      by_cases f : bt (talways ||| tnever) j = false
      · rw [if_pos ((B _).mpr f), if_pos (T2.mpr ⟨d, f⟩)]
      · rw [if_neg (fun q => f ((B _).mp q)), if_neg (fun q => f (T2.mp q).2)]
    · rw [if_neg (fun q => d (T1.mp q)), if_neg (show ¬ false = true by decide), if_neg (show ¬ (7 : Int32) ≤ 0 by decide), if_neg (fun q => d (T2.mp q).1)]
  · rw [if_neg c, if_neg c, if_neg (show ¬ (1 : Int32) ≤ 0 by decide)]
/-- the numbers below 44 that an operation leaves alone -/
theorem pH_lit {x : Int32} (h : pH a Wd R nr ulit umayor unight uoil uborn ustays useen thouses talways tnever tbeside) (hx : x &&& (talways ||| tnever) = talways) : pH (upd a 3 x) Wd R nr x umayor unight uoil uborn ustays useen thouses talways tnever tbeside := by
  obtain ⟨⟨t1, t2, t3⟩, h3, h34, h7, h8, h10, hm, hr, hb, hs⟩ := h
  refine ⟨⟨by rw [pk_un (by decide)]; exact t1, by rw [pk_un (by decide)]; exact t2, fun k hk => by rw [t3 k hk]; exact (mf_near_same (pk_un (by decide)) (pk_un (by decide)) k).symm⟩, pk_us, by rw [pk_us, pk_un (by decide), t2]; exact hx, by rw [pk_un (by decide)]; exact h7, by rw [pk_un (by decide)]; exact h8, by rw [pk_un (by decide)]; exact h10, hm, hr, fun k hk => ⟨by rw [pk_un (by omega)]; exact (hb k hk).1, by rw [pk_un (by omega)]; exact (hb k hk).2⟩, fun k hk => by rw [pk_un (by omega)]; exact hs k hk⟩
theorem pH_mayor {ru : Int32} (h : pH a Wd R nr ulit umayor unight uoil uborn ustays useen thouses talways tnever tbeside) (hru : ¬ ru < 0 ∧ ru.toNatClampNeg < nr) : pH (upd a 10 ru) Wd R nr ulit ru unight uoil uborn ustays useen thouses talways tnever tbeside := by
  obtain ⟨⟨t1, t2, t3⟩, h3, h34, h7, h8, h10, hm, hr, hb, hs⟩ := h
  refine ⟨⟨by rw [pk_un (by decide)]; exact t1, by rw [pk_un (by decide)]; exact t2, fun k hk => by rw [t3 k hk]; exact (mf_near_same (pk_un (by decide)) (pk_un (by decide)) k).symm⟩, by rw [pk_un (by decide)]; exact h3, by rw [pk_un (by decide), pk_un (by decide)]; exact h34, by rw [pk_un (by decide)]; exact h7, by rw [pk_un (by decide)]; exact h8, pk_us, Or.inr hru, hr, fun k hk => ⟨by rw [pk_un (by omega)]; exact (hb k hk).1, by rw [pk_un (by omega)]; exact (hb k hk).2⟩, fun k hk => by rw [pk_un (by omega)]; exact hs k hk⟩
/-- two operations that answer alike: the same answer, the same status, the relation behind both -/
theorem rr_paint {pic : Int64} (h : pH a Wd R nr ulit umayor unight uoil uborn ustays useen thouses talways tnever tbeside) (hpf : hf_paint thouses talways tnever pic.toInt32 &&& (talways ||| tnever) = talways) (hP : xf_isPicture pic = mf_isFrom pic 0 1073741823) : (xf_paint ulit thouses talways tnever pic).1 = (mf_paint a pic).1 ∧ (xf_paint ulit thouses talways tnever pic).2.1 = (mf_paint a pic).2.1 ∧ pH (mf_paint a pic).2.2 Wd R nr (xf_paint ulit thouses talways tnever pic).2.2 umayor unight uoil uborn ustays useen thouses talways tnever tbeside := by
  unfold xf_paint mf_paint mf_paints zlet
  rw [hP, r_paint h]
  by_cases c : mf_isFrom pic 0 1073741823 = true
  · rw [if_pos c, if_pos c]
    exact ⟨rfl, rfl, pH_lit h hpf⟩
  · rw [if_neg c, if_neg c]
    exact ⟨rfl, rfl, h⟩
theorem hf_paint_stuck {pic : Int32} : hf_paint thouses talways tnever pic &&& (talways ||| tnever) = talways := by
  unfold hf_paint
  refine b_ext fun i hi => ?_
  simp only [b_and, b_or, b_xor, b_m1 i hi]
  cases bt pic i <;> cases bt thouses i <;> cases bt talways i <;> cases bt tnever i <;> rfl
theorem rr_mayor {ru : Int32} (h : pH a Wd R nr ulit umayor unight uoil uborn ustays useen thouses talways tnever tbeside) (h0 : 0 < nr) : (xf_mayor umayor nr ru).1 = (mf_mayor a nr ru).1 ∧ (xf_mayor umayor nr ru).2.1 = (mf_mayor a nr ru).2.1 ∧ pH (mf_mayor a nr ru).2.2 Wd R nr ulit (xf_mayor umayor nr ru).2.2 unight uoil uborn ustays useen thouses talways tnever tbeside := by
  have hr := h.2.2.2.2.2.2.2.1
  unfold xf_mayor mf_mayor
  rw [r_rule h0 hr]
  by_cases c : xf_isRule nr ru = true
  · rw [if_pos c, if_pos c]
    exact ⟨rfl, rfl, pH_mayor h (xIn_1 h0 (by omega) c)⟩
  · rw [if_neg c, if_neg c]
    exact ⟨rfl, rfl, h⟩
end R3
