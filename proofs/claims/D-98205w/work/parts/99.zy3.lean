/-! r44: a test on both sides -/
section R44
variable {tape text : Nat → Int32} {zs : Nat} {ra rb fr en : Nat} {sort num bk bp tk val fp : Int32} {at_ : Nat → Int32} {Wd R : Nat}
theorem sign_val {ch : Int32} (h : mf_isSign tk val ch = true) : val = ch := by
  unfold mf_isSign at h
  by_cases c : tk = 4
  · rw [if_pos c] at h
    by_cases d : val = ch
    · exact d
    · rw [if_neg d] at h; cases h
  · rw [if_neg c] at h; cases h
/-- what is shown of a test -/
def tsQ (tape : Nat → Int32) (zs en n Wd R : Nat) (at_ : Nat → Int32) (y : Int32) (x : Bool × Nat × Nat × Int32 × Int32 × Int32 × Int32 × Int32 × Int32) (m : yM8) : Prop :=
  pRd tape zs en (x.1, x.2.1, x.2.2.1, x.2.2.2.1, x.2.2.2.2.1, x.2.2.2.2.2.1, x.2.2.2.2.2.2.1) (m.1, m.2.1, m.2.2.1, m.2.2.2.1, m.2.2.2.2.1, m.2.2.2.2.2.1, m.2.2.2.2.2.2.1) ∧ (∀ k, ¬ (1684 + 6 * n ≤ k ∧ k < 1690 + 6 * n) → m.2.2.2.2.2.2.2 k = at_ k) ∧ (m.1 = true → yTst (fun j => m.2.2.2.2.2.2.2 (1640 + j)) Wd R n (y, x.2.2.2.2.2.2.2.1, x.2.2.2.2.2.2.2.2))
/-- behind a comparing sign -/
theorem cmp_eq {n e0 : Nat} {ch : Int32} (h : pTx tape text zs) (h9 : zs ≤ 900) (hk : pTk tape zs (ra, rb, sort, num) (tk, fr, en, val)) (h0 : at_ (1684 + 6 * n) = 1519) (h5 : at_ (1684 + 6 * n + 5) = ch) (he : e0 ≤ en) (b : Nat → Int32) (hb : ∀ k, ¬ (1684 + 6 * n ≤ k ∧ k < 1690 + 6 * n) → at_ k = b k) (x : Bool × Nat × Nat × Int32 × Int32 × Int32 × Int32 × Int32 × Int32) (hx : zlet (rf_next zs rb num tape) (fun t_15 => zlet (rf_number zs t_15.1 t_15.2.1 t_15.2.2.1 t_15.2.2.2 tape bk bp 0 30) (fun t_16 => (if t_16.1 = true then (true, t_16.2.2.1, t_16.2.2.2.1, t_16.2.2.2.2.1, t_16.2.2.2.2.2.1, t_16.2.2.2.2.2.2.1, t_16.2.2.2.2.2.2.2, t_16.2.1, ch) else (false, t_16.2.2.1, t_16.2.2.2.1, t_16.2.2.2.2.1, t_16.2.2.2.2.2.1, t_16.2.2.2.2.2.2.1, t_16.2.2.2.2.2.2.2, 0, 0)))) = x) (m : yM8) (hm : zlet (mf_onward zs en text) (fun t_6 => zlet (mf_number zs t_6.1 t_6.2.1 t_6.2.2.1 t_6.2.2.2 fp 0 at_ text (1684 + 6 * n + 1) 0 30) (fun t_7 => (t_7.1, t_7.2.1, t_7.2.2.1, t_7.2.2.2.1, t_7.2.2.2.2.1, t_7.2.2.2.2.2.1, t_7.2.2.2.2.2.2.1, t_7.2.2.2.2.2.2.2))) = m) : tsQ tape zs e0 n Wd R b 0 x m := by
  obtain ⟨q1, q2⟩ := next_tk (num := num) h h9 hk.2.1 hk.2.2.2.1
  rw [zl (rf_next zs rb num tape)] at hx
  rw [zl (mf_onward zs en text)] at hm
  generalize rf_next zs rb num tape = t at q1 hx
  generalize mf_onward zs en text = u at q1 q2 hm
  obtain ⟨t1, t2, t3, t4⟩ := t
  obtain ⟨u1, u2, u3, u4⟩ := u
  dsimp only at q2 hx hm
  have o1 := q1.2.2.1
  dsimp only at o1
  have hu := number_eq (bk := bk) (bp := bp) (fp := fp) (at_ := at_) (to := 1684 + 6 * n + 1) (lo := 0) (hi := 30) h h9 q1
  have lo1 : ∀ k, ¬ k = 1684 + 6 * n + 1 → (mf_number zs u1 u2 u3 u4 fp 0 at_ text (1684 + 6 * n + 1) 0 30).2.2.2.2.2.2.2 k = at_ k := fun k q => nu_lo q
  rw [zl (rf_number zs t1 t2 t3 t4 tape bk bp 0 30)] at hx
  rw [zl (mf_number zs u1 u2 u3 u4 fp 0 at_ text (1684 + 6 * n + 1) 0 30)] at hm
  generalize rf_number zs t1 t2 t3 t4 tape bk bp 0 30 = c at hu hx
  generalize mf_number zs u1 u2 u3 u4 fp 0 at_ text (1684 + 6 * n + 1) 0 30 = d at hu hm lo1
  obtain ⟨⟨p1, p2, p3⟩, p4⟩ := hu
  obtain ⟨c1, cV, c2, c3, c4, c5, c6, c7⟩ := c
  obtain ⟨d1, d2, d3, d4, d5, d6, d7, d8⟩ := d
  dsimp only at p1 p2 p3 p4 hx hm lo1
  subst p1
  cases c1 with
  | false =>
    rw [if_neg (show ¬ false = true by decide)] at hx
    subst hx hm
    exact ⟨⟨rfl, fun q => (by cases q), p3⟩, fun k q => (lo1 k (by omega)).trans (hb k q), fun q => (by cases q)⟩
  | true =>
    obtain ⟨w1, w2, w3⟩ := p2 rfl
    obtain ⟨v, v1, v2, v3, v4, v5⟩ := p4 rfl
    rw [if_pos (show true = true from rfl)] at hx
    subst hx hm
    refine ⟨⟨rfl, fun _ => ⟨w1, w2, by dsimp only; omega⟩, fun q => (by cases q)⟩, fun k q => (lo1 k (by omega)).trans (hb k q), fun _ => Or.inl ⟨rfl, ?_, ?_, ?_⟩⟩
    · dsimp only; rw [show 1640 + (44 + 6 * n) = 1684 + 6 * n by omega, lo1 _ (by omega)]; exact h0
    · dsimp only; rw [show 1640 + (44 + 6 * n + 1) = 1684 + 6 * n + 1 by omega, v3, pk_us]; exact v2.symm
    · dsimp only; rw [show 1640 + (44 + 6 * n + 5) = 1684 + 6 * n + 5 by omega, lo1 _ (by omega)]; exact h5
theorem test_eq {n : Nat} (h : pTx tape text zs) (h9 : zs ≤ 900) (hk : pTk tape zs (ra, rb, sort, num) (tk, fr, en, val)) (hW0 : 1 ≤ Wd) (hW : Wd ≤ 5) (hR0 : 1 ≤ R) (hR : R ≤ 6) (x : Bool × Nat × Nat × Int32 × Int32 × Int32 × Int32 × Int32 × Int32) (hx : rf_when zs ra rb sort num tape bk bp Wd R = x) (m : yM8) (hm : mf_test zs tk fr en val fp 0 at_ text Wd R (1684 + 6 * n) = m) : tsQ tape zs en n Wd R at_ (rf_tests ra rb sort tape) x m := by
  unfold rf_when at hx
  unfold mf_test at hm
  have hfe := hk.2.2.1
  dsimp only at hfe
  have ht := tests_v h h9 hk
  dsimp only at ht
  rcases ht with ⟨i, i3, a1, a2⟩ | ⟨a1, a2⟩
  · rw [a1] at hx ⊢
    rw [a2] at hm
    have hip : ¬ nI i < 0 := nI_pos (by omega)
    rw [if_pos (show (0 : Int32) ≤ nI i from Int32.not_lt.mp hip)] at hx
    rw [if_pos (show (19 : Int32) ≤ nI (19 + i) from nI_le (a := 19) (by omega) (by omega))] at hm
    obtain ⟨q1, q2⟩ := next_tk (num := num) h h9 hk.2.1 hk.2.2.2.1
    rw [zl (rf_next zs rb num tape)] at hx
    rw [zl (mf_onward zs en text)] at hm
    generalize rf_next zs rb num tape = t at q1 hx
    generalize mf_onward zs en text = u at q1 q2 hm
    obtain ⟨t1, t2, t3, t4⟩ := t
    obtain ⟨u1, u2, u3, u4⟩ := u
    dsimp only at q2 hx hm
    have o1 := q1.2.2.1
    dsimp only at o1
    have hcase : i = 0 ∨ i = 1 ∨ i = 2 := by omega
    rcases hcase with rfl | rfl | rfl
    · rw [if_neg (show ¬ nI 0 = (1 : Int32) by decide), if_neg (show ¬ nI 0 = (2 : Int32) by decide)] at hx
      rw [if_neg (show ¬ nI (19 + 0) = (21 : Int32) by decide), if_neg (show ¬ nI (19 + 0) = (20 : Int32) by decide), show (1500 : Int32) + nI (19 + 0) = 1519 by decide] at hm
      rw [sign_iff (ch := 60) q1, sign_iff (ch := 62) q1, sign_iff (ch := 61) q1] at hx
      have hb : ∀ k, ¬ (1684 + 6 * n ≤ k ∧ k < 1690 + 6 * n) → upd (upd at_ (1684 + 6 * n) 1519) (1684 + 6 * n + 5) u4 k = at_ k := fun k q => by rw [pk_un (by omega), pk_un (by omega)]
      have hb0 : upd (upd at_ (1684 + 6 * n) 1519) (1684 + 6 * n + 5) u4 (1684 + 6 * n) = 1519 := by rw [pk_un (by omega), pk_us]
      by_cases g1 : mf_isSign u1 u4 60 = true
      · rw [if_pos g1] at hx hm
        exact cmp_eq h h9 q1 hb0 (pk_us.trans (sign_val g1)) (by omega) at_ hb x hx m hm
      · rw [if_neg g1] at hx hm
        by_cases g2 : mf_isSign u1 u4 62 = true
        · rw [if_pos g2] at hx hm
          exact cmp_eq h h9 q1 hb0 (pk_us.trans (sign_val g2)) (by omega) at_ hb x hx m hm
        · rw [if_neg g2] at hx hm
          by_cases g3 : mf_isSign u1 u4 61 = true
          · rw [if_pos g3] at hx hm
            exact cmp_eq h h9 q1 hb0 (pk_us.trans (sign_val g3)) (by omega) at_ hb x hx m hm
          · rw [if_neg g3] at hx hm
            rw [zl (rf_wrong t1 t3)] at hx
            rw [zl (mf_fails u1 u2 fp 0 2)] at hm
            obtain ⟨w1, w2, w3, w4⟩ := wrong_eq (fp := fp) q1
            subst hx hm
            unfold tsQ
            dsimp only
            rw [w4]
            exact ⟨⟨rfl, fun q => (by cases q), fun _ => ⟨w1, w2, w3⟩⟩, fun k q => pk_un (by omega), fun q => (by cases q)⟩
    · rw [if_pos (show nI 1 = (1 : Int32) from rfl)] at hx
      rw [if_neg (show ¬ nI (19 + 1) = (21 : Int32) by decide), if_pos (show nI (19 + 1) = (20 : Int32) from rfl), show (1500 : Int32) + nI (19 + 1) = 1520 by decide] at hm
      obtain ⟨⟨p1, p2, p3⟩, f1, p4⟩ := cell_eq (bk := bk) (bp := bp) (fp := fp) (at_ := upd at_ (1684 + 6 * n) 1520) (to := 1684 + 6 * n + 1) h h9 q1 hW0 hW hR0 hR _ rfl _ rfl
      rw [zl (rf_cell zs t1 t2 t3 t4 tape bk bp Wd R)] at hx
      change mf_placeTo zs u1 u2 u3 u4 fp 0 (upd at_ (1684 + 6 * n) 1520) text Wd R (1684 + 6 * n + 1) = m at hm
      generalize rf_cell zs t1 t2 t3 t4 tape bk bp Wd R = c at p1 p2 p3 p4 hx
      rw [hm] at p1 p2 p3 p4 f1
      obtain ⟨c1, cV, c2, c3, c4, c5, c6, c7⟩ := c
      obtain ⟨d1, d2, d3, d4, d5, d6, d7, d8⟩ := m
      dsimp only at p1 p2 p3 p4 f1 hx
      subst p1
      have f2 : ∀ k, ¬ (1684 + 6 * n ≤ k ∧ k < 1690 + 6 * n) → d8 k = at_ k := fun k q => (f1 k (by omega) (by omega)).trans (pk_un (by omega))
      cases c1 with
      | false =>
        rw [if_neg (show ¬ false = true by decide)] at hx
        subst hx
        exact ⟨⟨rfl, fun q => (by cases q), p3⟩, f2, fun q => (by cases q)⟩
      | true =>
        obtain ⟨w1, w2, w3⟩ := p2 rfl
        obtain ⟨vx, vy, v1, v2, v3, v4⟩ := p4 rfl
        rw [if_pos (show true = true from rfl)] at hx
        subst hx
        refine ⟨⟨rfl, fun _ => ⟨w1, w2, by dsimp only; omega⟩, fun q => (by cases q)⟩, f2, fun _ => Or.inr (Or.inl ⟨rfl, ?_, vx, vy, v1, v2, ?_, ?_, v3⟩)⟩
        · dsimp only; rw [show 1640 + (44 + 6 * n) = 1684 + 6 * n by omega, f1 _ (by omega) (by omega), pk_us]
        · dsimp only; rw [show 1640 + (44 + 6 * n + 1) = 1684 + 6 * n + 1 by omega, v4, pk_un (by omega), pk_us]
        · dsimp only; rw [show 1640 + (44 + 6 * n + 2) = 1684 + 6 * n + 2 by omega, v4, pk_us]
    · rw [if_neg (show ¬ nI 2 = (1 : Int32) by decide), if_pos (show nI 2 = (2 : Int32) from rfl)] at hx
      rw [if_pos (show nI (19 + 2) = (21 : Int32) from rfl), show (1500 : Int32) + nI (19 + 2) = 1521 by decide] at hm
      subst hx hm
      refine ⟨⟨rfl, fun _ => ⟨q1, rfl, by dsimp only; omega⟩, fun q => (by cases q)⟩, fun k q => pk_un (by omega), fun _ => Or.inr (Or.inr ⟨rfl, ?_⟩)⟩
      dsimp only
      rw [show 1640 + (44 + 6 * n) = 1684 + 6 * n by omega, pk_us]
  · rw [a1] at hx ⊢
    have hn : ¬ (19 : Int32) ≤ mf_inWords zs tk fr en text := by
      have hr := inW_rng (text := text) h9 hk
      dsimp only at hr
      rcases hr with e | ⟨w, w1, e⟩
      · rw [e]; decide
      · intro q
        rw [e] at q
        have hw : 19 ≤ w := le_nI (v := 19) (by omega) q
        have hz := a2 (w - 19) (by omega)
        rw [show 19 + (w - 19) = w by omega] at hz
        exact hz e
    rw [if_neg (show ¬ (0 : Int32) ≤ -1 by decide), zl (rf_wrong ra sort)] at hx
    rw [if_neg hn, zl (mf_fails tk fr fp 0 2)] at hm
    obtain ⟨w1, w2, w3, w4⟩ := wrong_eq (fp := fp) hk
    subst hx hm
    unfold tsQ
    dsimp only
    rw [w4]
    exact ⟨⟨rfl, fun q => (by cases q), fun _ => ⟨w1, w2, w3⟩⟩, fun _ _ => rfl, fun q => (by cases q)⟩
end R44
