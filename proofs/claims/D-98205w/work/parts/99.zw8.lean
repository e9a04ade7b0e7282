/-! r32: a rule, a citizen -/
section R32
variable {tape text : Nat → Int32} {zs : Nat} {ra rb fr en : Nat} {sort num bk bp tk val fp : Int32} {at_ tborn tstays tleast tmost : Nat → Int32} {names trn cn : Nat → Int64} {nr nc : Nat}
theorem rule_full (hk : pTk tape zs (ra, rb, sort, num) (tk, fr, en, val)) (h1 : ¬ tk = 1) (hr : (at_ 1645).toNatClampNeg = 4) : pRd tape zs en ((rf_rule zs ra rb sort num tape bk bp 4 nc trn cn tborn tstays).1, (rf_rule zs ra rb sort num tape bk bp 4 nc trn cn tborn tstays).2.1, (rf_rule zs ra rb sort num tape bk bp 4 nc trn cn tborn tstays).2.2.1, (rf_rule zs ra rb sort num tape bk bp 4 nc trn cn tborn tstays).2.2.2.1, (rf_rule zs ra rb sort num tape bk bp 4 nc trn cn tborn tstays).2.2.2.2.1, (rf_rule zs ra rb sort num tape bk bp 4 nc trn cn tborn tstays).2.2.2.2.2.1, (rf_rule zs ra rb sort num tape bk bp 4 nc trn cn tborn tstays).2.2.2.2.2.2.1) ((mf_aRule zs tk fr en val fp 0 at_ names text).1, (mf_aRule zs tk fr en val fp 0 at_ names text).2.1, (mf_aRule zs tk fr en val fp 0 at_ names text).2.2.1, (mf_aRule zs tk fr en val fp 0 at_ names text).2.2.2.1, (mf_aRule zs tk fr en val fp 0 at_ names text).2.2.2.2.1, (mf_aRule zs tk fr en val fp 0 at_ names text).2.2.2.2.2.1, (mf_aRule zs tk fr en val fp 0 at_ names text).2.2.2.2.2.2.1) ∧ (mf_aRule zs tk fr en val fp 0 at_ names text).1 = false := by
  have hx : rf_rule zs ra rb sort num tape bk bp 4 nc trn cn tborn tstays = (false, ra, rb, sort, num, 6, nI ra, 4, trn, tborn, tstays) := by
    unfold rf_rule
    rw [if_pos rfl]
    rfl
  have hn : mf_newOne zs tk fr en val fp 0 at_ names text 5 4 0 = (false, tk, fr, en, val, nI fr, 6, names) := by
    unfold mf_newOne zlet
    rw [show (1640 + 5 : Nat) = 1645 from rfl, hr, if_pos rfl, fails_k h1]
  have hm : mf_aRule zs tk fr en val fp 0 at_ names text = (false, tk, fr, en, val, nI fr, 6, at_, names) := by
    unfold mf_aRule zlet
    rw [hn]
    rfl
  rw [hx, hm]
  exact ⟨⟨rfl, fun q => (by cases q), fun _ => ⟨rfl, congrArg nI hk.1, (by show (0 : Int32) < 6; decide)⟩⟩, rfl⟩
theorem rule_eq (h : pTx tape text zs) (h9 : zs ≤ 900) (hk : pTk tape zs (ra, rb, sort, num) (tk, fr, en, val)) (hr : (at_ 1645).toNatClampNeg = nr) (hn4 : nr < 4) (hc : (at_ 1646).toNatClampNeg = nc) (hc6 : nc ≤ 6) (hrn : ∀ k, k < nr → pNm (trn k) (names (40 + k))) (hcn : ∀ k, k < nc → pNm (cn k) (names (44 + k))) (z1 : at_ (1652 + (2 * nr)) = 0) (z2 : at_ (1652 + (2 * nr) + 1) = 0) : pRd tape zs en ((rf_rule zs ra rb sort num tape bk bp nr nc trn cn tborn tstays).1, (rf_rule zs ra rb sort num tape bk bp nr nc trn cn tborn tstays).2.1, (rf_rule zs ra rb sort num tape bk bp nr nc trn cn tborn tstays).2.2.1, (rf_rule zs ra rb sort num tape bk bp nr nc trn cn tborn tstays).2.2.2.1, (rf_rule zs ra rb sort num tape bk bp nr nc trn cn tborn tstays).2.2.2.2.1, (rf_rule zs ra rb sort num tape bk bp nr nc trn cn tborn tstays).2.2.2.2.2.1, (rf_rule zs ra rb sort num tape bk bp nr nc trn cn tborn tstays).2.2.2.2.2.2.1) ((mf_aRule zs tk fr en val fp 0 at_ names text).1, (mf_aRule zs tk fr en val fp 0 at_ names text).2.1, (mf_aRule zs tk fr en val fp 0 at_ names text).2.2.1, (mf_aRule zs tk fr en val fp 0 at_ names text).2.2.2.1, (mf_aRule zs tk fr en val fp 0 at_ names text).2.2.2.2.1, (mf_aRule zs tk fr en val fp 0 at_ names text).2.2.2.2.2.1, (mf_aRule zs tk fr en val fp 0 at_ names text).2.2.2.2.2.2.1) ∧ ((mf_aRule zs tk fr en val fp 0 at_ names text).1 = true → ∃ (X M : Int64) (bo st : Int32), pNm X M ∧ (rf_rule zs ra rb sort num tape bk bp nr nc trn cn tborn tstays).2.2.2.2.2.2.2 = (nr + 1, vp_updL trn nr X, upd tborn nr bo, upd tstays nr st) ∧ (mf_aRule zs tk fr en val fp 0 at_ names text).2.2.2.2.2.2.2 = (upd (upd (upd (upd at_ (1652 + (2 * nr)) bo) (1652 + (2 * nr) + 1) st) 1645 (nI (nr + 1))) 1650 0, vp_updL names (40 + nr) M)) := by
  have hnew := new_eq (bk := bk) (bp := bp) (fp := fp) (many := 5) (most := 4) (srt := 0) (c := nr) (trn := trn) (cn := cn) (names := names) (at_ := at_) h h9 hk hr (by omega) hr hc (by omega) hc6 hrn hcn
  have hA := aRule_eq (tk := tk) (fr := fr) (en := en) (val := val) (fp := fp) (zs := zs) (text := text) (names := names) (at_ := at_) hr
  have ex : rf_rule zs ra rb sort num tape bk bp nr nc trn cn tborn tstays = (fun t_3 : Bool × Int64 × Nat × Nat × Int32 × Int32 × Int32 × Int32 => (if t_3.1 = true then (fun t_4 : Bool × Int32 × Nat × Nat × Int32 × Int32 × Int32 × Int32 => (if t_4.1 = true then (fun t_5 : Bool × Int32 × Nat × Nat × Int32 × Int32 × Int32 × Int32 => (if t_5.1 = true then (true, t_5.2.2.1, t_5.2.2.2.1, t_5.2.2.2.2.1, t_5.2.2.2.2.2.1, t_5.2.2.2.2.2.2.1, t_5.2.2.2.2.2.2.2, nr + 1, vp_updL trn nr t_3.2.1, upd tborn nr t_4.2.1, upd tstays nr t_5.2.1) else (false, t_5.2.2.1, t_5.2.2.2.1, t_5.2.2.2.2.1, t_5.2.2.2.2.2.1, t_5.2.2.2.2.2.2.1, t_5.2.2.2.2.2.2.2, nr, trn, upd tborn nr t_4.2.1, tstays))) (rf_set zs t_4.2.2.1 t_4.2.2.2.1 t_4.2.2.2.2.1 t_4.2.2.2.2.2.1 tape t_4.2.2.2.2.2.2.1 t_4.2.2.2.2.2.2.2 15) else (false, t_4.2.2.1, t_4.2.2.2.1, t_4.2.2.2.2.1, t_4.2.2.2.2.2.1, t_4.2.2.2.2.2.2.1, t_4.2.2.2.2.2.2.2, nr, trn, tborn, tstays))) (rf_set zs t_3.2.2.1 t_3.2.2.2.1 t_3.2.2.2.2.1 t_3.2.2.2.2.2.1 tape t_3.2.2.2.2.2.2.1 t_3.2.2.2.2.2.2.2 14) else (false, t_3.2.2.1, t_3.2.2.2.1, t_3.2.2.2.2.1, t_3.2.2.2.2.2.1, t_3.2.2.2.2.2.2.1, t_3.2.2.2.2.2.2.2, nr, trn, tborn, tstays))) (rf_fresh zs (rf_next zs rb num tape).1 (rf_next zs rb num tape).2.1 (rf_next zs rb num tape).2.2.1 (rf_next zs rb num tape).2.2.2 tape bk bp nr nc trn cn) := by
    unfold rf_rule
    rw [if_neg (by omega)]
    rfl
  have hfail : (mf_newOne zs tk fr en val fp 0 at_ names text 5 4 0).1 = false → mf_aRule zs tk fr en val fp 0 at_ names text = (false, (mf_newOne zs tk fr en val fp 0 at_ names text 5 4 0).2.1, (mf_newOne zs tk fr en val fp 0 at_ names text 5 4 0).2.2.1, (mf_newOne zs tk fr en val fp 0 at_ names text 5 4 0).2.2.2.1, (mf_newOne zs tk fr en val fp 0 at_ names text 5 4 0).2.2.2.2.1, (mf_newOne zs tk fr en val fp 0 at_ names text 5 4 0).2.2.2.2.2.1, (mf_newOne zs tk fr en val fp 0 at_ names text 5 4 0).2.2.2.2.2.2.1, at_, (mf_newOne zs tk fr en val fp 0 at_ names text 5 4 0).2.2.2.2.2.2.2) := by
    intro q
    unfold mf_aRule zlet
    dsimp only
    rw [if_neg (by rw [q]; decide)]
  rw [ex]
  generalize rf_fresh zs (rf_next zs rb num tape).1 (rf_next zs rb num tape).2.1 (rf_next zs rb num tape).2.2.1 (rf_next zs rb num tape).2.2.2 tape bk bp nr nc trn cn = f at hnew ⊢
  generalize mf_newOne zs tk fr en val fp 0 at_ names text 5 4 0 = n1 at hnew hA hfail
  obtain ⟨⟨p1, p2, p3⟩, p4⟩ := hnew
  obtain ⟨f1, fX, f2, f3, f4, f5, f6, f7⟩ := f
  dsimp only at p1 p2 p3 p4 ⊢
  cases e1 : n1.1 with
  | false =>
    rw [hfail e1]
    obtain ⟨g1, g2, g3⟩ := p3 e1
    rw [e1] at p1
    subst p1
    exact ⟨⟨rfl, fun q => (by cases q), fun _ => ⟨g1, g2, g3⟩⟩, fun q => (by cases q)⟩
  | true =>
    obtain ⟨g1, g2, g3⟩ := p2 e1
    obtain ⟨M, g4, g5⟩ := p4 e1
    rw [e1] at p1
    subst p1
    rw [if_pos rfl]
    have hs := set_eq (bk := f6) (bp := f7) (fp := n1.2.2.2.2.2.1) (wi := 14) (to := 1652 + (2 * nr)) (at_ := at_) h h9 g1 (by omega) z1
    rw [show nI (xWo 14) = (5 : Int32) from rfl] at hs
    obtain ⟨A1, A2⟩ := hA n1 rfl e1 g2 _ rfl
    generalize mSet zs n1.2.1 n1.2.2.1 n1.2.2.2.1 n1.2.2.2.2.1 n1.2.2.2.2.2.1 at_ text (1652 + (2 * nr)) 5 = s1 at hs A1 A2
    generalize rf_set zs f2 f3 f4 f5 tape f6 f7 14 = y1 at hs ⊢
    obtain ⟨⟨u1, u2, u3⟩, u4⟩ := hs
    obtain ⟨y1a, yB, y2, y3, y4, y5, y6, y7⟩ := y1
    dsimp only at u1 u2 u3 u4 ⊢
    cases e2 : s1.1 with
    | false =>
      rw [A1 e2]
      obtain ⟨v1, v2, v3⟩ := u3 e2
      rw [e2] at u1
      subst u1
      exact ⟨⟨rfl, fun q => (by cases q), fun _ => ⟨v1, v2, v3⟩⟩, fun q => (by cases q)⟩
    | true =>
      obtain ⟨v1, v2, v3⟩ := u2 e2
      have v4 := u4 e2
      rw [e2] at u1
      subst u1
      rw [if_pos rfl]
      have hs2 := set_eq (bk := y6) (bp := y7) (fp := s1.2.2.2.2.2.1) (wi := 15) (to := 1652 + (2 * nr) + 1) (at_ := s1.2.2.2.2.2.2.2) h h9 v1 (by omega) (by rw [v4, pk_un (by omega)]; exact z2)
      rw [show nI (xWo 15) = (6 : Int32) from rfl] at hs2
      obtain ⟨B1, B2⟩ := A2 e2 v2 _ rfl
      generalize mSet zs s1.2.1 s1.2.2.1 s1.2.2.2.1 s1.2.2.2.2.1 s1.2.2.2.2.2.1 s1.2.2.2.2.2.2.2 text (1652 + (2 * nr) + 1) 6 = s2 at hs2 B1 B2
      generalize rf_set zs y2 y3 y4 y5 tape y6 y7 15 = w1 at hs2 ⊢
      obtain ⟨⟨c1, c2, c3⟩, c4⟩ := hs2
      obtain ⟨w1a, wS, w2, w3, w4, w5, w6, w7⟩ := w1
      dsimp only at c1 c2 c3 c4 ⊢
      cases e3 : s2.1 with
      | false =>
        rw [B1 e3]
        obtain ⟨d1, d2, d3⟩ := c3 e3
        rw [e3] at c1
        subst c1
        exact ⟨⟨rfl, fun q => (by cases q), fun _ => ⟨d1, d2, d3⟩⟩, fun q => (by cases q)⟩
      | true =>
        rw [B2 e3]
        obtain ⟨d1, d2, d3⟩ := c2 e3
        have d4 := c4 e3
        rw [e3] at c1
        subst c1
        rw [if_pos rfl]
        have e45 : (s2.2.2.2.2.2.2.2 1645).toNatClampNeg = nr := by
          rw [d4, pk_un (by omega), v4, pk_un (by omega)]
          exact hr
        refine ⟨⟨rfl, fun _ => ⟨d1, d2, by have := v1.2.2.1; have := g1.2.2.1; dsimp only at *; omega⟩, fun q => (by cases q)⟩, fun _ => ⟨fX, M, yB, wS, g4, rfl, ?_⟩⟩
        dsimp only
        rw [e45, d4, v4, g5, Nat.add_zero]
end R32
