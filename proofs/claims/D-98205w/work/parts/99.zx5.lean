/-! r38: a town's rows on both sides -/
section R38
variable {tape text : Nat → Int32} {zs Wd R : Nat} {ra rb fr en : Nat} {sort num bk bp tk val fp : Int32} {at_ : Nat → Int32} {pic hou alw nev : Int32}
theorem word_tk {wi : Nat} (hk : pTk tape zs (ra, rb, sort, num) (tk, fr, en, val)) (c : rf_isWord ra rb sort tape wi = true) : tk = 2 := by
  have hs : sort = 1 := by
    apply Classical.byContradiction
    intro q
    unfold rf_isWord at c
    rw [if_neg q] at c
    cases c
  obtain ⟨-, -, -, -, k5⟩ := hk
  dsimp only at k5
  rcases k5 with ⟨a1, -⟩ | ⟨-, a2, -⟩ | ⟨a1, -⟩ | ⟨a1, -⟩ | ⟨a1, -⟩
  · exact absurd (a1.symm.trans hs) (by decide)
  · exact a2
  · exact absurd (a1.symm.trans hs) (by decide)
  · exact absurd (a1.symm.trans hs) (by decide)
  · exact absurd (a1.symm.trans hs) (by decide)
theorem tk_sort (hk : pTk tape zs (ra, rb, sort, num) (tk, fr, en, val)) : sort = 1 ↔ tk = 2 := by
  obtain ⟨-, -, -, -, k5⟩ := hk
  dsimp only at k5
  rcases k5 with ⟨a1, a2⟩ | ⟨a1, a2, -⟩ | ⟨a1, a2, -⟩ | ⟨a1, a2, -⟩ | ⟨a1, a2, -⟩ <;> rw [a1, a2] <;> decide
theorem tk_end (hk : pTk tape zs (ra, rb, sort, num) (tk, fr, en, val)) : sort = 0 ↔ tk = 0 := by
  obtain ⟨-, -, -, -, k5⟩ := hk
  dsimp only at k5
  rcases k5 with ⟨a1, a2⟩ | ⟨a1, a2, -⟩ | ⟨a1, a2, -⟩ | ⟨a1, a2, -⟩ | ⟨a1, a2, -⟩ <;> rw [a1, a2] <;> decide
theorem row_eq (h : pTx tape text zs) (h9 : zs ≤ 900) (hk : pTk tape zs (ra, rb, sort, num) (tk, fr, en, val)) (h1 : ¬ tk = 1) (hW0 : 1 ≤ Wd) (hW : Wd ≤ 5) (hR : R ≤ 6) (h40 : at_ 1640 = nI Wd) (h41 : at_ 1641 = nI R) (hI : rI at_ pic hou alw nev (Wd * R)) (x : Bool × Nat × Nat × Int32 × Int32 × Int32 × Int32 × Int32 × Nat × Int32 × Int32 × Int32) (hx : rf_row zs ra rb sort num pic tape bk bp Wd R hou alw nev = x) (m : Bool × Int32 × Nat × Nat × Int32 × Int32 × Int32 × (Nat → Int32)) (hm : mf_aRow zs tk fr en val fp 0 at_ text = m) : pRd tape zs en (x.1, x.2.1, x.2.2.1, x.2.2.2.1, x.2.2.2.2.1, x.2.2.2.2.2.2.1, x.2.2.2.2.2.2.2.1) (m.1, m.2.1, m.2.2.1, m.2.2.2.1, m.2.2.2.2.1, m.2.2.2.2.2.1, m.2.2.2.2.2.2.1) ∧ ((∀ k, k < 1641 ∨ 1644 < k → m.2.2.2.2.2.2.2 k = at_ k) ∧ mIn (m.2.2.2.2.2.2.2 1641) 6) ∧ (m.1 = true → en < m.2.2.1 ∧ R < 6 ∧ x.2.2.2.2.2.2.2.2.1 = R + 1 ∧ m.2.2.2.2.2.2.2 1641 = nI (R + 1) ∧ rI m.2.2.2.2.2.2.2 x.2.2.2.2.2.1 x.2.2.2.2.2.2.2.2.2.1 x.2.2.2.2.2.2.2.2.2.2.1 x.2.2.2.2.2.2.2.2.2.2.2 (Wd * (R + 1))) := by
  have h41' : (at_ 1641).toNatClampNeg = R := by rw [h41, nI_clamp (by omega)]
  have h40' : (at_ 1640).toNatClampNeg = Wd := by rw [h40, nI_clamp (by omega)]
  have mi : mIn (at_ 1641) 6 := by rw [h41]; exact mIn_nI hR (by omega)
  by_cases c : R = 6
  · have ex : rf_row zs ra rb sort num pic tape bk bp Wd R hou alw nev = (false, ra, rb, sort, num, pic, 6, nI ra, R, hou, alw, nev) := by
      unfold rf_row zlet bf_at
      rw [if_pos c]
    have em : mf_aRow zs tk fr en val fp 0 at_ text = (false, tk, fr, en, val, nI fr, 6, at_) := by
      unfold mf_aRow zlet
      rw [if_pos (show (at_ 1641).toNatClampNeg = 6 by rw [h41']; exact c), fails_k h1]
    rw [ex] at hx
    rw [em] at hm
    subst hx hm
    exact ⟨⟨rfl, fun q => (by cases q), fun _ => ⟨rfl, congrArg nI hk.1, (by show (0 : Int32) < 6; decide)⟩⟩, ⟨fun _ _ => rfl, mi⟩, fun q => (by cases q)⟩
  · obtain ⟨q1, q2⟩ := next_tk (num := num) h h9 hk.2.1 hk.2.2.2.1
    have hfe := hk.2.2.1
    unfold rf_row at hx
    unfold mf_aRow at hm
    rw [if_neg c, zl (rf_next zs rb num tape)] at hx
    rw [if_neg (show ¬ (at_ 1641).toNatClampNeg = 6 by rw [h41']; exact c), zl (mf_onward zs en text)] at hm
    generalize rf_next zs rb num tape = t at hx q1
    generalize mf_onward zs en text = u at hm q1 q2
    obtain ⟨t1, t2, t3, t4⟩ := t
    obtain ⟨u1, u2, u3, u4⟩ := u
    dsimp only at q2 hx hm hfe
    have hw1 := tk_sort q1
    have w0 := wrong_eq (fp := fp) q1
    obtain ⟨k1, k2, k3, k4, k5⟩ := q1
    dsimp only at k1 k2 k3 k4 k5
    subst k1 k2
    by_cases w : u1 = 2 ∧ t2 - t1 = Wd
    · have ev : rf_row_V30 Wd (t1, t2, t3, t4) = true := by
        unfold rf_row_V30
        dsimp only
        rw [if_pos (hw1.mpr w.1), if_pos w.2]
      rw [ev, zl true, zl (rf_row_L65 tape (t1, t2, t3, t4) (t1, true))] at hx
      rw [if_pos w.1, if_pos (show t2 - t1 = (at_ 1640).toNatClampNeg by rw [h40']; exact w.2)] at hm
      have L := letters_eq (fp := fp) (at_ := at_) h (t1, t2, t3, t4) (u1, t1, t2, u4) rfl k4 (t1, true) (.inl t1) (t2 - t1) ((t2 - t1) + 1) t1 (Nat.le_refl _) (Nat.lt_succ_self _)
      rcases L with ⟨L1, z, L2⟩ | ⟨L1, L2⟩
      · change (rf_row_L65 tape (t1, t2, t3, t4) (t1, true)).2 = true at L1
        change mf_aRow_L63 zs fp 0 at_ text (u1, t1, t2, u4) t1 = .inl z at L2
        rw [if_pos L1, zl (rf_row_L170 tape Wd R (t1, t2, t3, t4) (pic, hou, alw, nev)), zl (rf_next zs t2 t4 tape)] at hx
        rw [zcase_l L2, zl (mf_aRow_L99 zs text (u1, t1, t2, u4) (t1, at_)), zl (mf_onward zs t2 text)] at hm
        obtain ⟨a', b1, b2, b3⟩ := bits_run (Wd := Wd) (R := R) (at_ := at_) h (t1, t2, t3, t4) (u1, t1, t2, u4) rfl (show t2 = t1 + Wd by omega) k4 hW (by omega) h40 h41 (pic, hou, alw, nev) hI (t1, at_) ((t2 - t1) + 1) 0 at_ (Nat.zero_le _) (by omega) hI (fun _ _ _ _ => rfl)
        change mf_aRow_L99 zs text (u1, t1, t2, u4) (t1, at_) = (t2, a') at b1
        rw [b1] at hm
        have eL : rf_row_L170 tape Wd R (t1, t2, t3, t4) (pic, hou, alw, nev) = zf (rf_row_B170 tape Wd R (t1, t2, t3, t4)) (pic, hou, alw, nev) Wd := rfl
        rw [eL] at hx
        generalize zf (rf_row_B170 tape Wd R (t1, t2, t3, t4)) (pic, hou, alw, nev) Wd = s at hx b2
        obtain ⟨s1, s2, s3, s4⟩ := s
        obtain ⟨v1, v2⟩ := next_tk (num := t4) (rb := t2) h h9 rfl k4
        generalize rf_next zs t2 t4 tape = v at hx v1
        generalize mf_onward zs t2 text = y at hm v1 v2
        obtain ⟨va, vb, vc, vd⟩ := v
        obtain ⟨ya, yb, yc, yd⟩ := y
        dsimp only at hx hm b2 v2
        have cl := close_eq (bk := bk) (bp := bp) (fp := fp) h h9 v1
        have v3 := v1.2.2.1
        dsimp only at v3
        rw [zl (rf_close zs va vb vc vd tape bk bp)] at hx
        rw [zl (mf_wantSign zs ya yb yc yd fp 0 text 59)] at hm
        generalize rf_close zs va vb vc vd tape bk bp = g at hx cl
        generalize mf_wantSign zs ya yb yc yd fp 0 text 59 = e at hm cl
        obtain ⟨p1, p2, p3⟩ := cl
        obtain ⟨g1, g2, g3, g4, g5, g6, g7⟩ := g
        obtain ⟨e1, e2, e3, e4, e5, e6, e7⟩ := e
        dsimp only at p1 p2 p3 hx hm
        subst p1
        have b41 : (a' 1641).toNatClampNeg = R := by rw [b3 1641 (by decide) (by decide) (by decide)]; exact h41'
        rw [b41] at hm
        have hfr : ∀ k, k < 1641 ∨ 1644 < k → upd a' 1641 (nI (R + 1)) k = at_ k := fun k hq => (pk_un (by omega)).trans (b3 k (by omega) (by omega) (by omega))
        have mi1 : mIn (upd a' 1641 (nI (R + 1)) 1641) 6 := by rw [pk_us]; exact mIn_nI (by omega) (by omega)
        cases g1 with
        | false =>
          rw [if_neg (by decide)] at hx
          subst hx hm
          exact ⟨⟨rfl, fun q => (by cases q), p3⟩, ⟨hfr, mi1⟩, fun q => (by cases q)⟩
        | true =>
          rw [if_pos rfl] at hx
          subst hx hm
          obtain ⟨z1, z2, z3⟩ := p2 rfl
          refine ⟨⟨rfl, fun _ => ⟨z1, z2, by dsimp only; omega⟩, fun q => (by cases q)⟩, ⟨hfr, mi1⟩, fun _ => ⟨by dsimp only; omega, by omega, rfl, (by dsimp only; exact pk_us), ?_⟩⟩
          obtain ⟨i1, i2, i3, i4⟩ := b2
          show rI (upd a' 1641 (nI (R + 1))) s1 s2 s3 s4 (Wd * R + Wd)
          exact ⟨(pk_un (by decide)).trans i1, (pk_un (by decide)).trans i2, (pk_un (by decide)).trans i3, i4⟩
      · change (rf_row_L65 tape (t1, t2, t3, t4) (t1, true)).2 = false at L1
        change mf_aRow_L63 zs fp 0 at_ text (u1, t1, t2, u4) t1 = .inr ((mf_fails u1 t1 fp 0 2).1, u1, t1, t2, u4, (mf_fails u1 t1 fp 0 2).2.1, (mf_fails u1 t1 fp 0 2).2.2, at_) at L2
        rw [if_neg (by rw [L1]; decide), zl (rf_wrong t1 t3)] at hx
        rw [zcase_r L2] at hm
        subst hx hm
        obtain ⟨w1, w2, w3, w4⟩ := w0
        dsimp only
        rw [w4]
        exact ⟨⟨rfl, fun q => (by cases q), fun _ => ⟨w1, w2, w3⟩⟩, ⟨fun _ _ => rfl, mi⟩, fun q => (by cases q)⟩
    · have ev : rf_row_V30 Wd (t1, t2, t3, t4) = false := by
        unfold rf_row_V30
        dsimp only
        by_cases q : t3 = 1
        · rw [if_pos q, if_neg (fun r => w ⟨hw1.mp q, r⟩)]
        · rw [if_neg q]
      have e6 : rf_row_L65 tape (t1, t2, t3, t4) (t1, false) = (t1, false) := by
        unfold rf_row_L65
        rw [zw_r (show rf_row_B65 tape (t1, t2, t3, t4) (t1, false) = .inr (t1, false) by unfold rf_row_B65; dsimp only; rw [if_neg (by decide)])]
      rw [ev, zl false, zl (rf_row_L65 tape (t1, t2, t3, t4) (t1, false)), e6, if_neg (show ¬ (t1, false).2 = true from Bool.false_ne_true), zl (rf_wrong t1 t3)] at hx
      have em : ((mf_fails u1 t1 fp 0 2).1, u1, t1, t2, u4, (mf_fails u1 t1 fp 0 2).2.1, (mf_fails u1 t1 fp 0 2).2.2, at_) = m := by
        by_cases q : u1 = 2
        · rw [if_pos q, if_neg (show ¬ t2 - t1 = (at_ 1640).toNatClampNeg by rw [h40']; exact fun r => w ⟨q, r⟩)] at hm
          exact hm
        · rw [if_neg q] at hm
          exact hm
      subst hx em
      obtain ⟨w1, w2, w3, w4⟩ := w0
      dsimp only
      rw [w4]
      exact ⟨⟨rfl, fun q => (by cases q), fun _ => ⟨w1, w2, w3⟩⟩, ⟨fun _ _ => rfl, mi⟩, fun q => (by cases q)⟩
/-- the loop over rows: x's state, the model's state -/
def pRws (tape : Nat → Int32) (zs Wd : Nat) (at_ : Nat → Int32) (s : Nat × Nat × Int32 × Int32 × Int32 × Int32 × Int32 × Nat × Int32 × Int32 × Int32) (m : Bool × Int32 × Nat × Nat × Int32 × Int32 × Int32 × (Nat → Int32)) : Prop :=
  m.1 = true ∧ pTk tape zs (s.1, s.2.1, s.2.2.1, s.2.2.2.1) (m.2.1, m.2.2.1, m.2.2.2.1, m.2.2.2.2.1) ∧ m.2.2.2.2.2.2.1 = 0 ∧ s.2.2.2.2.2.2.2.1 ≤ 6 ∧ m.2.2.2.2.2.2.2 1641 = nI s.2.2.2.2.2.2.2.1 ∧ rI m.2.2.2.2.2.2.2 s.2.2.2.2.1 s.2.2.2.2.2.2.2.2.1 s.2.2.2.2.2.2.2.2.2.1 s.2.2.2.2.2.2.2.2.2.2 (Wd * s.2.2.2.2.2.2.2.1) ∧ ∀ k, k < 1641 ∨ 1644 < k → m.2.2.2.2.2.2.2 k = at_ k
theorem rows_eq {nr nc : Nat} {tbeside tleast tmost tborn tstays : Nat → Int32} {trnames cnames : Nat → Int64} (h : pTx tape text zs) (h9 : zs ≤ 900) (hW0 : 1 ≤ Wd) (hW : Wd ≤ 5) (h40 : at_ 1640 = nI Wd) (t1 : Bool × Int32 × Nat × Int32 × Nat × Nat × Int32 × Int32 × Int32 × Int32 × (Nat → Int32)) (hz1 : t1.2.2.1 = zs) (hx1 : t1.2.2.2.2.2.2.2.2.2.2 = text) (t4 : Bool × Int32 × Nat × Nat × Int32 × Int32 × Int32 × (Nat → Int32)) (t_2 : Bool × Int32 × Nat × Nat × Int32 × Int32 × Int32 × Int32) (ht2 : t_2.2.1.toNatClampNeg = Wd) (t_4 : Bool × Nat × Nat × Int32 × Int32 × Int32 × Int32) (d : (Nat × Nat × Int32 × Int32 × Int32 × Int32 × Int32 × Nat × Int32 × Int32 × Int32) ⊕ (Bool × Nat × Nat × Int32 × Int32 × Int32 × Int32 × Int32 × Nat × Nat × Int32 × Int32 × Int32 × Nat × Nat × Bool × (Nat → Int32) × (Nat → Int32) × (Nat → Int32) × (Nat → Int64) × (Nat → Int64) × (Nat → Int32) × (Nat → Int32))) (d' : Bool × Int32 × Nat × Nat × Int32 × Int32 × Int32 × (Nat → Int32)) : ∀ n n' s m, pRws tape zs Wd at_ s m → zs - s.1 < n → 1 + (zs - m.2.2.2.1) < n' → (∃ s' m', zw (rf_town_B51b zs tape nr nc tbeside tleast tmost trnames cnames tborn tstays t_2 t_4) d n s = .inl s' ∧ zw (mf_town_B29 t1 t4) d' n' m = m' ∧ pRws tape zs Wd at_ s' m') ∨ (∃ r m', zw (rf_town_B51b zs tape nr nc tbeside tleast tmost trnames cnames tborn tstays t_2 t_4) d n s = .inr r ∧ zw (mf_town_B29 t1 t4) d' n' m = m' ∧ r.1 = false ∧ m'.1 = false ∧ r.2.2.2.2.2.2.1 = m'.2.2.2.2.2.2.1 ∧ r.2.2.2.2.2.2.2.1 = m'.2.2.2.2.2.1 ∧ 0 < m'.2.2.2.2.2.2.1 ∧ (∀ k, k < 1641 ∨ 1644 < k → m'.2.2.2.2.2.2.2 k = at_ k) ∧ mIn (m'.2.2.2.2.2.2.2 1641) 6) := by
  intro n
  induction n with
  | zero => exact fun n' s m _ hn => absurd hn (Nat.not_lt_zero _)
  | succ n ih =>
    intro n' s m hs hn hn'
    obtain ⟨n', rfl⟩ : ∃ z, n' = z + 1 := ⟨n' - 1, by omega⟩
    obtain ⟨ra, rb, sort, num, pic, bk, bp, R, hou, alw, nev⟩ := s
    obtain ⟨mo, tk, fr, en, val, fp, fl, a⟩ := m
    have hs' := hs
    obtain ⟨r1, r2, r3, r4, r5, r6, r7⟩ := hs
    dsimp only at r1 r2 r3 r4 r5 r6 r7 hn hn'
    subst r1 r3
    have hi := word_iff h h9 r2 (wi := 12) (by omega)
    dsimp only at hi
    rw [show nI (xWo 12) = (1 : Int32) from rfl] at hi
    by_cases c : rf_isWord ra rb sort tape 12 = true
    · have htk := word_tk r2 c
      have hrow := row_eq (bk := bk) (bp := bp) (fp := fp) (pic := pic) (hou := hou) (alw := alw) (nev := nev) (at_ := a) h h9 r2 (by rw [htk]; decide) hW0 hW r4 ((r7 1640 (by omega)).trans h40) r5 r6 _ rfl _ rfl
      have ex : rf_town_B51b zs tape nr nc tbeside tleast tmost trnames cnames tborn tstays t_2 t_4 (ra, rb, sort, num, pic, bk, bp, R, hou, alw, nev) = (fun t_7 : Bool × Nat × Nat × Int32 × Int32 × Int32 × Int32 × Int32 × Nat × Int32 × Int32 × Int32 => if t_7.1 = true then .inl (t_7.2.1, t_7.2.2.1, t_7.2.2.2.1, t_7.2.2.2.2.1, t_7.2.2.2.2.2.1, t_7.2.2.2.2.2.2.1, t_7.2.2.2.2.2.2.2.1, t_7.2.2.2.2.2.2.2.2.1, t_7.2.2.2.2.2.2.2.2.2.1, t_7.2.2.2.2.2.2.2.2.2.2.1, t_7.2.2.2.2.2.2.2.2.2.2.2) else .inr (.inr (false, t_7.2.1, t_7.2.2.1, t_7.2.2.2.1, t_7.2.2.2.2.1, t_7.2.2.2.2.2.1, t_7.2.2.2.2.2.2.1, t_7.2.2.2.2.2.2.2.1, Wd, t_7.2.2.2.2.2.2.2.2.1, t_7.2.2.2.2.2.2.2.2.2.1, t_7.2.2.2.2.2.2.2.2.2.2.1, t_7.2.2.2.2.2.2.2.2.2.2.2, nr, nc, rf_isWord t_2.2.2.1 t_2.2.2.2.1 t_2.2.2.2.2.1 tape 11, tbeside, tleast, tmost, trnames, cnames, tborn, tstays))) (rf_row zs ra rb sort num pic tape bk bp Wd R hou alw nev) := by
        unfold rf_town_B51b
        rw [if_pos c, ht2]
        rfl
      have em : mf_town_B29 t1 t4 (true, tk, fr, en, val, fp, 0, a) = .inl (mf_aRow zs tk fr en val fp 0 a text) := by
        unfold mf_town_B29
        rw [hz1, hx1]
        dsimp only
        rw [if_pos rfl, if_pos (hi.mp c)]
        rfl
      rw [zw_l em]
      generalize rf_row zs ra rb sort num pic tape bk bp Wd R hou alw nev = x at hrow ex
      generalize mf_aRow zs tk fr en val fp 0 a text = y at hrow ⊢
      obtain ⟨⟨p1, p2, p3⟩, ⟨f1, fm⟩, p4⟩ := hrow
      obtain ⟨xo, x2, x3, x4, x5, x6, x7, x8, x9, x10, x11, x12⟩ := x
      obtain ⟨yo, y2, y3, y4, y5, y6, y7, y8⟩ := y
      dsimp only at p1 p2 p3 p4 f1 fm ex
      subst p1
      have hfr : ∀ k, k < 1641 ∨ 1644 < k → y8 k = at_ k := fun k hq => (f1 k hq).trans (r7 k hq)
      cases xo with
      | false =>
        rw [if_neg (by decide)] at ex
        obtain ⟨g1, g2, g3⟩ := p3 rfl
        obtain ⟨n', rfl⟩ : ∃ z, n' = z + 1 := ⟨n' - 1, by omega⟩
        refine Or.inr ⟨_, (false, y2, y3, y4, y5, y6, y7, y8), zw_r ex, zw_r ?_, rfl, rfl, g1, g2, g3, hfr, fm⟩
        unfold mf_town_B29
        dsimp only
        rw [if_neg (by decide)]
      | true =>
        rw [if_pos rfl] at ex
        rw [zw_l ex]
        obtain ⟨g1, g2, g3⟩ := p2 rfl
        obtain ⟨j1, j2, j3, j4, j5⟩ := p4 rfl
        have u1 := r2.1
        have u2 := r2.2.2.1
        have u3 := g1.1
        have u4 := g1.2.2.1
        have u5 := g1.2.2.2.1
        dsimp only at u1 u2 u3 u4 u5
        refine ih n' _ (true, y2, y3, y4, y5, y6, y7, y8) ⟨rfl, g1, g2, ?_, ?_, ?_, hfr⟩ (by dsimp only; omega) (by dsimp only; omega)
        · dsimp only; omega
        · dsimp only; rw [j3]; exact j4
        · dsimp only; rw [j3]; exact j5
    · have ex : rf_town_B51b zs tape nr nc tbeside tleast tmost trnames cnames tborn tstays t_2 t_4 (ra, rb, sort, num, pic, bk, bp, R, hou, alw, nev) = .inr (.inl (ra, rb, sort, num, pic, bk, bp, R, hou, alw, nev)) := by
        unfold rf_town_B51b
        rw [if_neg c]
      have em : mf_town_B29 t1 t4 (true, tk, fr, en, val, fp, 0, a) = .inr (true, tk, fr, en, val, fp, 0, a) := by
        unfold mf_town_B29
        rw [hz1, hx1]
        dsimp only
        rw [if_pos rfl, if_neg (fun q => c (hi.mpr q))]
      exact Or.inl ⟨_, _, zw_r ex, zw_r em, hs'⟩
end R38
