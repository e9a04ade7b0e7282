/-! r33: a citizen -/
section R33
variable {tape text : Nat → Int32} {zs : Nat} {ra rb fr en : Nat} {sort num bk bp tk val fp : Int32} {at_ tleast tmost : Nat → Int32} {names trn cn : Nat → Int64} {nr nc : Nat}
theorem zl {α β : Type} (a : α) (f : α → β) : zlet a f = f a := rfl
theorem cit_full (hk : pTk tape zs (ra, rb, sort, num) (tk, fr, en, val)) (h1 : ¬ tk = 1) (hc : (at_ 1646).toNatClampNeg = 6) : pRd tape zs en ((rf_citizen zs ra rb sort num tape bk bp nr 6 tleast tmost trn cn).1, (rf_citizen zs ra rb sort num tape bk bp nr 6 tleast tmost trn cn).2.1, (rf_citizen zs ra rb sort num tape bk bp nr 6 tleast tmost trn cn).2.2.1, (rf_citizen zs ra rb sort num tape bk bp nr 6 tleast tmost trn cn).2.2.2.1, (rf_citizen zs ra rb sort num tape bk bp nr 6 tleast tmost trn cn).2.2.2.2.1, (rf_citizen zs ra rb sort num tape bk bp nr 6 tleast tmost trn cn).2.2.2.2.2.1, (rf_citizen zs ra rb sort num tape bk bp nr 6 tleast tmost trn cn).2.2.2.2.2.2.1) ((mf_aCitizen zs tk fr en val fp 0 at_ names text).1, (mf_aCitizen zs tk fr en val fp 0 at_ names text).2.1, (mf_aCitizen zs tk fr en val fp 0 at_ names text).2.2.1, (mf_aCitizen zs tk fr en val fp 0 at_ names text).2.2.2.1, (mf_aCitizen zs tk fr en val fp 0 at_ names text).2.2.2.2.1, (mf_aCitizen zs tk fr en val fp 0 at_ names text).2.2.2.2.2.1, (mf_aCitizen zs tk fr en val fp 0 at_ names text).2.2.2.2.2.2.1) ∧ (mf_aCitizen zs tk fr en val fp 0 at_ names text).1 = false := by
  have hx : rf_citizen zs ra rb sort num tape bk bp nr 6 tleast tmost trn cn = (false, ra, rb, sort, num, 6, nI ra, 6, tleast, tmost, cn) := by
    unfold rf_citizen
    rw [if_pos rfl]
    rfl
  have hn : mf_newOne zs tk fr en val fp 0 at_ names text 6 6 4 = (false, tk, fr, en, val, nI fr, 6, names) := by
    unfold mf_newOne zlet
    rw [show (1640 + 6 : Nat) = 1646 from rfl, hc, if_pos rfl, fails_k h1]
  have hm : mf_aCitizen zs tk fr en val fp 0 at_ names text = (false, tk, fr, en, val, nI fr, 6, at_, names) := by
    unfold mf_aCitizen zlet
    rw [hn]
    rfl
  rw [hx, hm]
  exact ⟨⟨rfl, fun q => (by cases q), fun _ => ⟨rfl, congrArg nI hk.1, (by show (0 : Int32) < 6; decide)⟩⟩, rfl⟩
theorem cit_eq (h : pTx tape text zs) (h9 : zs ≤ 900) (hk : pTk tape zs (ra, rb, sort, num) (tk, fr, en, val)) (hr : (at_ 1645).toNatClampNeg = nr) (hn4 : nr ≤ 4) (hc : (at_ 1646).toNatClampNeg = nc) (hc6 : nc < 6) (hrn : ∀ k, k < nr → pNm (trn k) (names (40 + k))) (hcn : ∀ k, k < nc → pNm (cn k) (names (44 + k))) : pRd tape zs en ((rf_citizen zs ra rb sort num tape bk bp nr nc tleast tmost trn cn).1, (rf_citizen zs ra rb sort num tape bk bp nr nc tleast tmost trn cn).2.1, (rf_citizen zs ra rb sort num tape bk bp nr nc tleast tmost trn cn).2.2.1, (rf_citizen zs ra rb sort num tape bk bp nr nc tleast tmost trn cn).2.2.2.1, (rf_citizen zs ra rb sort num tape bk bp nr nc tleast tmost trn cn).2.2.2.2.1, (rf_citizen zs ra rb sort num tape bk bp nr nc tleast tmost trn cn).2.2.2.2.2.1, (rf_citizen zs ra rb sort num tape bk bp nr nc tleast tmost trn cn).2.2.2.2.2.2.1) ((mf_aCitizen zs tk fr en val fp 0 at_ names text).1, (mf_aCitizen zs tk fr en val fp 0 at_ names text).2.1, (mf_aCitizen zs tk fr en val fp 0 at_ names text).2.2.1, (mf_aCitizen zs tk fr en val fp 0 at_ names text).2.2.2.1, (mf_aCitizen zs tk fr en val fp 0 at_ names text).2.2.2.2.1, (mf_aCitizen zs tk fr en val fp 0 at_ names text).2.2.2.2.2.1, (mf_aCitizen zs tk fr en val fp 0 at_ names text).2.2.2.2.2.2.1) ∧ ((mf_aCitizen zs tk fr en val fp 0 at_ names text).1 = true → ∃ (X M : Int64) (l m : Nat), pNm X M ∧ l ≤ m ∧ m ≤ 30 ∧ (rf_citizen zs ra rb sort num tape bk bp nr nc tleast tmost trn cn).2.2.2.2.2.2.2 = (nc + 1, upd tleast nc (nI l), upd tmost nc (nI m), vp_updL cn nc X) ∧ (mf_aCitizen zs tk fr en val fp 0 at_ names text).2.2.2.2.2.2.2 = (upd (upd (upd at_ (1660 + (2 * nc)) (nI l)) (1660 + (2 * nc) + 1) (nI m)) 1646 (nI (nc + 1)), vp_updL names (44 + nc) M)) := by
  have hnew := new_eq (bk := bk) (bp := bp) (fp := fp) (many := 6) (most := 6) (srt := 4) (c := nc) (trn := trn) (cn := cn) (names := names) (at_ := at_) h h9 hk hc (by omega) hr hc (by omega) (by omega) hrn hcn
  unfold rf_citizen mf_aCitizen
  rw [if_neg (show ¬ nc = 6 by omega), zl (rf_next zs rb num tape), zl (rf_fresh zs (rf_next zs rb num tape).1 (rf_next zs rb num tape).2.1 (rf_next zs rb num tape).2.2.1 (rf_next zs rb num tape).2.2.2 tape bk bp nr nc trn cn), zl (mf_newOne zs tk fr en val fp 0 at_ names text 6 6 4)]
  generalize rf_fresh zs (rf_next zs rb num tape).1 (rf_next zs rb num tape).2.1 (rf_next zs rb num tape).2.2.1 (rf_next zs rb num tape).2.2.2 tape bk bp nr nc trn cn = f at hnew ⊢
  generalize mf_newOne zs tk fr en val fp 0 at_ names text 6 6 4 = n1 at hnew ⊢
  obtain ⟨⟨p1, p2, p3⟩, p4⟩ := hnew
  obtain ⟨f1, fX, f2, f3, f4, f5, f6, f7⟩ := f
  obtain ⟨n1a, n2, n3, n4, n5, n6, n7, n8⟩ := n1
  dsimp only at p1 p2 p3 p4 ⊢
  subst p1
  cases f1 with
  | false =>
    obtain ⟨g1, g2, g3⟩ := p3 rfl
    exact ⟨⟨rfl, fun q => (by cases q), fun _ => ⟨g1, g2, g3⟩⟩, fun q => (by cases q)⟩
  | true =>
    obtain ⟨g1, g2, g3⟩ := p2 rfl
    obtain ⟨M, g4, g5⟩ := p4 rfl
    have i1 := g1.2.2.1
    subst g2
    rw [if_pos rfl, if_pos rfl]
    have hw := word_eq (bk := f6) (bp := f7) (fp := n6) (wi := 17) h h9 g1 (by omega)
    rw [show nI (xWo 17) = (7 : Int32) from rfl] at hw
    rw [zl (rf_word zs f2 f3 f4 f5 tape f6 f7 17), zl (mf_wantWord zs n2 n3 n4 n5 n6 0 text 7)]
    generalize rf_word zs f2 f3 f4 f5 tape f6 f7 17 = a at hw ⊢
    generalize mf_wantWord zs n2 n3 n4 n5 n6 0 text 7 = b at hw ⊢
    obtain ⟨p1, p2, p3⟩ := hw
    obtain ⟨a1, a2, a3, a4, a5, a6, a7⟩ := a
    obtain ⟨b1, b2, b3, b4, b5, b6, b7⟩ := b
    dsimp only at p1 p2 p3 i1 g3 ⊢
    subst p1
    cases a1 with
    | false =>
      obtain ⟨v1, v2, v3⟩ := p3 rfl
      exact ⟨⟨rfl, fun q => (by cases q), fun _ => ⟨v1, v2, v3⟩⟩, fun q => (by cases q)⟩
    | true =>
      obtain ⟨v1, v2, v3⟩ := p2 rfl
      have i2 := v1.2.2.1
      subst v2
      rw [if_pos rfl, if_pos rfl, hc]
      have hu := number_eq (bk := a6) (bp := a7) (fp := b6) (at_ := at_) (to := 1660 + (2 * nc)) (lo := 0) (hi := 30) h h9 v1
      rw [zl (rf_number zs a2 a3 a4 a5 tape a6 a7 0 30), zl (mf_number zs b2 b3 b4 b5 b6 0 at_ text (1660 + (2 * nc)) 0 30)]
      generalize rf_number zs a2 a3 a4 a5 tape a6 a7 0 30 = c at hu ⊢
      generalize mf_number zs b2 b3 b4 b5 b6 0 at_ text (1660 + (2 * nc)) 0 30 = d at hu ⊢
      obtain ⟨⟨p1, p2, p3⟩, p4⟩ := hu
      obtain ⟨c1, cV, c2, c3, c4, c5, c6, c7⟩ := c
      obtain ⟨d1, d2, d3, d4, d5, d6, d7, d8⟩ := d
      dsimp only at p1 p2 p3 p4 i2 v3 ⊢
      subst p1
      cases c1 with
      | false =>
        obtain ⟨w1, w2, w3⟩ := p3 rfl
        exact ⟨⟨rfl, fun q => (by cases q), fun _ => ⟨w1, w2, w3⟩⟩, fun q => (by cases q)⟩
      | true =>
        obtain ⟨w1, w2, w3⟩ := p2 rfl
        obtain ⟨lv, l1, l2, l3, l4, l5⟩ := p4 rfl
        have i3 := w1.2.2.1
        subst w2 l2 l3
        rw [if_pos rfl, if_pos rfl]
        have hw2 := word_eq (bk := c6) (bp := c7) (fp := d6) (wi := 18) h h9 w1 (by omega)
        rw [show nI (xWo 18) = (8 : Int32) from rfl] at hw2
        rw [zl (rf_word zs c2 c3 c4 c5 tape c6 c7 18), zl (mf_wantWord zs d2 d3 d4 d5 d6 0 text 8)]
        generalize rf_word zs c2 c3 c4 c5 tape c6 c7 18 = r at hw2 ⊢
        generalize mf_wantWord zs d2 d3 d4 d5 d6 0 text 8 = t at hw2 ⊢
        obtain ⟨p1, p2, p3⟩ := hw2
        obtain ⟨r1, r2, r3, r4, r5, r6, r7⟩ := r
        obtain ⟨t1, t2, t3, t4, t5, t6, t7⟩ := t
        dsimp only at p1 p2 p3 i3 w3 ⊢
        subst p1
        cases r1 with
        | false =>
          obtain ⟨x1, x2, x3⟩ := p3 rfl
          exact ⟨⟨rfl, fun q => (by cases q), fun _ => ⟨x1, x2, x3⟩⟩, fun q => (by cases q)⟩
        | true =>
          obtain ⟨x1, x2, x3⟩ := p2 rfl
          have i4 := x1.2.2.1
          subst x2
          rw [if_pos rfl, if_pos rfl, pk_us, pk_us]
          have hu2 := number_eq (bk := r6) (bp := r7) (fp := t6) (at_ := upd at_ (1660 + (2 * nc)) (nI lv)) (to := 1660 + (2 * nc) + 1) (lo := nI lv) (hi := 30) h h9 x1
          rw [zl (rf_number zs r2 r3 r4 r5 tape r6 r7 (nI lv) 30), zl (mf_number zs t2 t3 t4 t5 t6 0 (upd at_ (1660 + (2 * nc)) (nI lv)) text (1660 + (2 * nc) + 1) (nI lv) 30)]
          generalize rf_number zs r2 r3 r4 r5 tape r6 r7 (nI lv) 30 = y at hu2 ⊢
          generalize mf_number zs t2 t3 t4 t5 t6 0 (upd at_ (1660 + (2 * nc)) (nI lv)) text (1660 + (2 * nc) + 1) (nI lv) 30 = z at hu2 ⊢
          obtain ⟨⟨p1, p2, p3⟩, p4⟩ := hu2
          obtain ⟨y1, yV, y2, y3, y4, y5, y6, y7⟩ := y
          obtain ⟨z1, z2, z3, z4, z5, z6, z7, z8⟩ := z
          dsimp only at p1 p2 p3 p4 i4 x3 ⊢
          subst p1
          cases y1 with
          | false =>
            obtain ⟨k1, k2, k3⟩ := p3 rfl
            exact ⟨⟨rfl, fun q => (by cases q), fun _ => ⟨k1, k2, k3⟩⟩, fun q => (by cases q)⟩
          | true =>
            obtain ⟨k1, k2, k3⟩ := p2 rfl
            obtain ⟨mv, m1, m2, m3, m4, m5⟩ := p4 rfl
            subst k2 m2 m3
            rw [if_pos rfl, if_pos rfl]
            have e46 : (upd (upd at_ (1660 + (2 * nc)) (nI lv)) (1660 + (2 * nc) + 1) (nI mv) 1646).toNatClampNeg = nc := by
              rw [pk_un (by omega), pk_un (by omega)]
              exact hc
            refine ⟨⟨rfl, fun _ => ⟨k1, rfl, ?_⟩, fun q => (by cases q)⟩, fun _ => ⟨fX, M, lv, mv, g4, ?_, ?_, rfl, ?_⟩⟩
            · dsimp only
              omega
            · apply Classical.byContradiction
              intro q
              exact m4 (nI_lt (by omega) (by omega))
            · apply Classical.byContradiction
              intro q
              exact nI_ge (a := 30) (b := mv) (by omega) (by omega) m5
            · dsimp only
              rw [e46, g5]
end R33
