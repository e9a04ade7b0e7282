/-! r43: a year's orders on both sides: a cell, a plain act, a test -/
section R43
variable {tape text : Nat → Int32} {zs : Nat} {ra rb fr en : Nat} {sort num bk bp tk val fp : Int32} {at_ : Nat → Int32} {names trn : Nat → Int64} {Wd R nr : Nat}
theorem le_nI {v a : Nat} (hv : v < 2 ^ 31) (h : nI v ≤ nI a) : v ≤ a := by
  apply Classical.byContradiction
  intro q
  exact nI_ge (a := a) (b := v) (by omega) hv h
theorem ge_nI {v a : Nat} (ha : a < 2 ^ 31) (h : ¬ nI v < nI a) : a ≤ v := by
  apply Classical.byContradiction
  intro q
  exact h (nI_lt (by omega) ha)
theorem cell_eq {to : Nat} (h : pTx tape text zs) (h9 : zs ≤ 900) (hk : pTk tape zs (ra, rb, sort, num) (tk, fr, en, val)) (hW0 : 1 ≤ Wd) (hW : Wd ≤ 5) (hR0 : 1 ≤ R) (hR : R ≤ 6) (x : Bool × Int32 × Nat × Nat × Int32 × Int32 × Int32 × Int32) (hx : rf_cell zs ra rb sort num tape bk bp Wd R = x) (m : Bool × Int32 × Nat × Nat × Int32 × Int32 × Int32 × (Nat → Int32)) (hm : mf_placeTo zs tk fr en val fp 0 at_ text Wd R to = m) : pRd tape zs en (x.1, x.2.2.1, x.2.2.2.1, x.2.2.2.2.1, x.2.2.2.2.2.1, x.2.2.2.2.2.2.1, x.2.2.2.2.2.2.2) (m.1, m.2.1, m.2.2.1, m.2.2.2.1, m.2.2.2.2.1, m.2.2.2.2.2.1, m.2.2.2.2.2.2.1) ∧ (∀ k, ¬ k = to → ¬ k = to + 1 → m.2.2.2.2.2.2.2 k = at_ k) ∧ (m.1 = true → ∃ vx vy : Nat, vx < Wd ∧ vy < R ∧ x.2.1 = nI (Wd * vy + vx) ∧ m.2.2.2.2.2.2.2 = upd (upd at_ to (nI vx)) (to + 1) (nI vy)) := by
  unfold rf_cell at hx
  unfold mf_placeTo at hm
  have hu := number_eq (bk := bk) (bp := bp) (fp := fp) (at_ := at_) (to := to) (lo := 0) (hi := nI (Wd - 1)) h h9 hk
  have lo1 : ∀ k, ¬ k = to → (mf_number zs tk fr en val fp 0 at_ text to 0 (nI (Wd - 1))).2.2.2.2.2.2.2 k = at_ k := fun k q => nu_lo q
  rw [zl (rf_number zs ra rb sort num tape bk bp 0 (nI (Wd - 1)))] at hx
  rw [zl (mf_number zs tk fr en val fp 0 at_ text to 0 (nI (Wd - 1)))] at hm
  generalize rf_number zs ra rb sort num tape bk bp 0 (nI (Wd - 1)) = c at hu hx
  generalize mf_number zs tk fr en val fp 0 at_ text to 0 (nI (Wd - 1)) = d at hu hm lo1
  obtain ⟨⟨p1, p2, p3⟩, p4⟩ := hu
  obtain ⟨c1, cV, c2, c3, c4, c5, c6, c7⟩ := c
  obtain ⟨d1, d2, d3, d4, d5, d6, d7, d8⟩ := d
  dsimp only at p1 p2 p3 p4 hm hx lo1
  subst p1
  cases c1 with
  | false =>
    rw [if_neg (show ¬ false = true by decide)] at hm hx
    subst hm hx
    exact ⟨⟨rfl, fun q => (by cases q), p3⟩, fun k q1 _ => lo1 k q1, fun q => (by cases q)⟩
  | true =>
    obtain ⟨w1, w2, w3⟩ := p2 rfl
    obtain ⟨vx, v1, v2, v3, v4, v5⟩ := p4 rfl
    subst w2 v2 v3
    have vx1 := le_nI (by omega) v5
    rw [if_pos (show true = true from rfl)] at hm hx
    have hu := number_eq (bk := c6) (bp := c7) (fp := d6) (at_ := upd at_ to (nI vx)) (to := to + 1) (lo := 0) (hi := nI (R - 1)) h h9 w1
    have lo2 : ∀ k, ¬ k = to + 1 → (mf_number zs d2 d3 d4 d5 d6 0 (upd at_ to (nI vx)) text (to + 1) 0 (nI (R - 1))).2.2.2.2.2.2.2 k = upd at_ to (nI vx) k := fun k q => nu_lo q
    rw [zl (rf_number zs c2 c3 c4 c5 tape c6 c7 0 (nI (R - 1)))] at hx
    rw [zl (mf_number zs d2 d3 d4 d5 d6 0 (upd at_ to (nI vx)) text (to + 1) 0 (nI (R - 1)))] at hm
    generalize rf_number zs c2 c3 c4 c5 tape c6 c7 0 (nI (R - 1)) = e at hu hx
    generalize mf_number zs d2 d3 d4 d5 d6 0 (upd at_ to (nI vx)) text (to + 1) 0 (nI (R - 1)) = f at hu hm lo2
    obtain ⟨⟨p1, p2, p3⟩, p4⟩ := hu
    obtain ⟨e1, eV, e2, e3, e4, e5, e6, e7⟩ := e
    obtain ⟨f1, f2, f3, f4, f5, f6, f7, f8⟩ := f
    dsimp only at p1 p2 p3 p4 hm hx lo2
    subst p1
    cases e1 with
    | false =>
      rw [if_neg (show ¬ false = true by decide)] at hm hx
      subst hm hx
      exact ⟨⟨rfl, fun q => (by cases q), p3⟩, fun k q1 q2 => (lo2 k q2).trans (pk_un q1), fun q => (by cases q)⟩
    | true =>
      obtain ⟨z1, z2, z3⟩ := p2 rfl
      obtain ⟨vy, y1, y2, y3, y4, y5⟩ := p4 rfl
      subst z2 y2 y3
      have vy1 := le_nI (by omega) y5
      rw [if_pos (show true = true from rfl)] at hm hx
      subst hm hx
      have o1 := w1.2.2.1
      dsimp only at o1 w3
      refine ⟨⟨rfl, fun _ => ⟨z1, rfl, by dsimp only at z3 ⊢; omega⟩, fun q => (by cases q)⟩, fun k q1 q2 => (pk_un q2).trans (pk_un q1), fun _ => ⟨vx, vy, by omega, by omega, ?_, rfl⟩⟩
      show nI Wd * nI vy + nI vx = nI (Wd * vy + vx)
      rw [show nI Wd * nI vy = nI (Wd * vy) from pk_mul Wd vy, nI_add]
/-- a plain act, behind its word -/
theorem plain_eq {i n : Nat} (h : pTx tape text zs) (h9 : zs ≤ 900) (hk : pTk tape zs (ra, rb, sort, num) (tk, fr, en, val)) (hW0 : 1 ≤ Wd) (hW : Wd ≤ 5) (hR0 : 1 ≤ R) (hR : R ≤ 6) (h4 : nr ≤ 4) (hnm : ∀ k, k < nr → pNm (trn k) (names k)) (hi : i < 7) (ha : rf_acts ra rb sort tape = nI i) (h0 : at_ (1684 + 6 * n) = nI (xWo i)) (x : Bool × Nat × Nat × Int32 × Int32 × Int32 × Int32 × Int32 × Int32) (hx : rf_plain zs ra rb sort num tape bk bp Wd R nr trn = x) (m : Bool × Int32 × Nat × Nat × Int32 × Int32 × Int32 × (Nat → Int32)) (hm : mf_yearOrder zs (mf_onward zs en text).1 (mf_onward zs en text).2.1 (mf_onward zs en text).2.2.1 (mf_onward zs en text).2.2.2 fp 0 at_ names text Wd R nr (nI (xWo i)) (1684 + 6 * n) = m) : pRd tape zs en (x.1, x.2.1, x.2.2.1, x.2.2.2.1, x.2.2.2.2.1, x.2.2.2.2.2.1, x.2.2.2.2.2.2.1) (m.1, m.2.1, m.2.2.1, m.2.2.2.1, m.2.2.2.2.1, m.2.2.2.2.2.1, m.2.2.2.2.2.2.1) ∧ (∀ k, ¬ (1684 + 6 * n ≤ k ∧ k < 1690 + 6 * n) → m.2.2.2.2.2.2.2 k = at_ k) ∧ (m.1 = true → yRow (fun j => m.2.2.2.2.2.2.2 (1640 + j)) Wd R nr n (x.2.2.2.2.2.2.2.1, x.2.2.2.2.2.2.2.2.toNatClampNeg)) := by
  unfold rf_plain at hx
  obtain ⟨q1, q2⟩ := next_tk (num := num) h h9 hk.2.1 hk.2.2.2.1
  rw [zl (rf_next zs rb num tape), ha] at hx
  generalize rf_next zs rb num tape = t at q1 hx
  generalize mf_onward zs en text = u at q1 q2 hm
  obtain ⟨t1, t2, t3, t4⟩ := t
  obtain ⟨u1, u2, u3, u4⟩ := u
  dsimp only at q2 hx hm
  have o1 := q1.2.2.1
  dsimp only at o1
  have hcase : i = 0 ∨ i = 1 ∨ i = 2 ∨ i = 3 ∨ i = 4 ∨ i = 5 ∨ i = 6 := by omega
  have ee : ∀ j, 1640 + (44 + 6 * n + j) = 1684 + 6 * n + j := fun j => by omega
  have ee0 : 1640 + (44 + 6 * n) = 1684 + 6 * n := by omega
  have triv : ∀ (w : Int32) (y : Int32), y = nI i → (∀ a : Nat → Int32, a (44 + 6 * n) = nI (xWo i) → yRow a Wd R nr n (y, (0 : Int32).toNatClampNeg)) → (true, t1, t2, t3, t4, bk, bp, y, 0) = x → (true, u1, u2, u3, u4, fp, 0, at_) = m → pRd tape zs en (x.1, x.2.1, x.2.2.1, x.2.2.2.1, x.2.2.2.2.1, x.2.2.2.2.2.1, x.2.2.2.2.2.2.1) (m.1, m.2.1, m.2.2.1, m.2.2.2.1, m.2.2.2.2.1, m.2.2.2.2.2.1, m.2.2.2.2.2.2.1) ∧ (∀ k, ¬ (1684 + 6 * n ≤ k ∧ k < 1690 + 6 * n) → m.2.2.2.2.2.2.2 k = at_ k) ∧ (m.1 = true → yRow (fun j => m.2.2.2.2.2.2.2 (1640 + j)) Wd R nr n (x.2.2.2.2.2.2.2.1, x.2.2.2.2.2.2.2.2.toNatClampNeg)) := by
    intro w y hy hrow hx hm
    subst hx hm
    exact ⟨⟨rfl, fun _ => ⟨q1, rfl, by dsimp only; omega⟩, fun q => (by cases q)⟩, fun _ _ => rfl, fun _ => hrow _ (by dsimp only; rw [ee0]; exact h0)⟩
  have num1 : ∀ (lo hi : Int32) (y : Int32), (fun t_16 : Bool × Int32 × Nat × Nat × Int32 × Int32 × Int32 × Int32 => (if t_16.1 = true then (true, t_16.2.2.1, t_16.2.2.2.1, t_16.2.2.2.2.1, t_16.2.2.2.2.2.1, t_16.2.2.2.2.2.2.1, t_16.2.2.2.2.2.2.2, y, t_16.2.1) else (false, t_16.2.2.1, t_16.2.2.2.1, t_16.2.2.2.2.1, t_16.2.2.2.2.2.1, t_16.2.2.2.2.2.2.1, t_16.2.2.2.2.2.2.2, 0, 0))) (rf_number zs t1 t2 t3 t4 tape bk bp lo hi) = x → mf_number zs u1 u2 u3 u4 fp 0 at_ text (1684 + 6 * n + 1) lo hi = m → (∀ (a : Nat → Int32) (v : Nat), ¬ nI v < lo → nI v ≤ hi → v < 10000 → a (44 + 6 * n) = nI (xWo i) → a (44 + 6 * n + 1) = nI v → yRow a Wd R nr n (y, (nI v).toNatClampNeg)) → pRd tape zs en (x.1, x.2.1, x.2.2.1, x.2.2.2.1, x.2.2.2.2.1, x.2.2.2.2.2.1, x.2.2.2.2.2.2.1) (m.1, m.2.1, m.2.2.1, m.2.2.2.1, m.2.2.2.2.1, m.2.2.2.2.2.1, m.2.2.2.2.2.2.1) ∧ (∀ k, ¬ (1684 + 6 * n ≤ k ∧ k < 1690 + 6 * n) → m.2.2.2.2.2.2.2 k = at_ k) ∧ (m.1 = true → yRow (fun j => m.2.2.2.2.2.2.2 (1640 + j)) Wd R nr n (x.2.2.2.2.2.2.2.1, x.2.2.2.2.2.2.2.2.toNatClampNeg)) := by
    intro lo hi y hx hm hrow
    have hu := number_eq (bk := bk) (bp := bp) (fp := fp) (at_ := at_) (to := 1684 + 6 * n + 1) (lo := lo) (hi := hi) h h9 q1
    have lo1 : ∀ k, ¬ k = 1684 + 6 * n + 1 → (mf_number zs u1 u2 u3 u4 fp 0 at_ text (1684 + 6 * n + 1) lo hi).2.2.2.2.2.2.2 k = at_ k := fun k q => nu_lo q
    rw [hm] at hu lo1
    generalize rf_number zs t1 t2 t3 t4 tape bk bp lo hi = c at hu hx
    obtain ⟨⟨p1, p2, p3⟩, p4⟩ := hu
    obtain ⟨c1, cV, c2, c3, c4, c5, c6, c7⟩ := c
    obtain ⟨d1, d2, d3, d4, d5, d6, d7, d8⟩ := m
    dsimp only at p1 p2 p3 p4 hx lo1 ⊢
    subst p1
    cases c1 with
    | false =>
      rw [if_neg (show ¬ false = true by decide)] at hx
      subst hx
      exact ⟨⟨rfl, fun q => (by cases q), p3⟩, fun k q => lo1 k (by omega), fun q => (by cases q)⟩
    | true =>
      obtain ⟨w1, w2, w3⟩ := p2 rfl
      obtain ⟨v, v1, v2, v3, v4, v5⟩ := p4 rfl
      rw [if_pos (show true = true from rfl)] at hx
      subst hx
      dsimp only at w3 ⊢
      refine ⟨⟨rfl, fun _ => ⟨w1, w2, by dsimp only; omega⟩, fun q => (by cases q)⟩, fun k q => lo1 k (by omega), fun _ => ?_⟩
      rw [v2]
      refine hrow _ v v4 v5 v1 ?_ ?_
      · rw [ee0, lo1 _ (by omega)]; exact h0
      · rw [ee 1, v3, pk_us]
  rcases hcase with rfl | rfl | rfl | rfl | rfl | rfl | rfl
  · rw [show nI (xWo 0) = (9 : Int32) from rfl] at hm
    unfold mf_yearOrder at hm
    rw [if_pos (show (9 : Int32) = 9 from rfl)] at hm
    rw [if_pos (show nI 0 = (0 : Int32) from rfl)] at hx
    refine num1 1 99 (nI 0) hx hm (fun a v v4 v5 v1 a0 a1 => Or.inl ⟨rfl, a0, ?_, ?_⟩)
    · rw [nI_clamp (by omega)]; exact a1
    · dsimp only; rw [nI_clamp (by omega)]; exact le_nI (a := 99) (by omega) v5
  · rw [show nI (xWo 1) = (10 : Int32) from rfl] at hm
    unfold mf_yearOrder at hm
    rw [if_neg (show ¬ (10 : Int32) = 9 by decide), if_pos (show (10 : Int32) = 10 from rfl)] at hm
    rw [if_neg (show ¬ nI 1 = (0 : Int32) by decide), if_pos (show nI 1 = (1 : Int32) from rfl)] at hx
    obtain ⟨⟨p1, p2, p3⟩, f1, p4⟩ := cell_eq (bk := bk) (bp := bp) (fp := fp) (at_ := at_) (to := 1684 + 6 * n + 1) h h9 q1 hW0 hW hR0 hR _ rfl _ rfl
    rw [zl (rf_cell zs t1 t2 t3 t4 tape bk bp Wd R)] at hx
    rw [zl (mf_placeTo zs u1 u2 u3 u4 fp 0 at_ text Wd R (1684 + 6 * n + 1))] at hm
    generalize rf_cell zs t1 t2 t3 t4 tape bk bp Wd R = c at p1 p2 p3 p4 hx
    change mf_placeTo zs u1 u2 u3 u4 fp 0 at_ text Wd R (1684 + 6 * n + 1) = m at hm
    rw [hm] at p1 p2 p3 p4 f1
    obtain ⟨c1, cV, c2, c3, c4, c5, c6, c7⟩ := c
    obtain ⟨d1, d2, d3, d4, d5, d6, d7, d8⟩ := m
    dsimp only at p1 p2 p3 p4 f1 hx ⊢
    subst p1
    cases c1 with
    | false =>
      rw [if_neg (show ¬ false = true by decide)] at hx
      subst hx
      exact ⟨⟨rfl, fun q => (by cases q), p3⟩, fun k q => f1 k (by omega) (by omega), fun q => (by cases q)⟩
    | true =>
      obtain ⟨w1, w2, w3⟩ := p2 rfl
      obtain ⟨vx, vy, v1, v2, v3, v4⟩ := p4 rfl
      rw [if_pos (show true = true from rfl)] at hx
      subst hx
      dsimp only at w3 ⊢
      have hWR : Wd * vy ≤ 5 * 6 := Nat.mul_le_mul hW (by omega)
      refine ⟨⟨rfl, fun _ => ⟨w1, w2, by dsimp only; omega⟩, fun q => (by cases q)⟩, fun k q => f1 k (by omega) (by omega), fun _ => Or.inr (Or.inl ⟨rfl, ?_, vx, vy, v1, v2, ?_, ?_, ?_⟩)⟩
      · dsimp only; rw [ee0, f1 _ (by omega) (by omega)]; exact h0
      · dsimp only; rw [ee 1, v4, pk_un (by omega), pk_us]
      · dsimp only; rw [ee 2, v4, pk_us]
      · dsimp only; rw [v3, nI_clamp (by omega)]
  · rw [show nI (xWo 2) = (11 : Int32) from rfl] at hm
    unfold mf_yearOrder at hm
    rw [if_neg (show ¬ (11 : Int32) = 9 by decide), if_neg (show ¬ (11 : Int32) = 10 by decide), if_pos (show (11 : Int32) = 11 from rfl)] at hm
    rw [if_neg (show ¬ nI 2 = (0 : Int32) by decide), if_neg (show ¬ nI 2 = (1 : Int32) by decide), if_neg (show ¬ nI 2 = (4 : Int32) by decide), if_pos (show nI 2 = (2 : Int32) from rfl)] at hx
    obtain ⟨n1, n2, n3⟩ := name_eq (bk := bk) (bp := bp) (fp := fp) h h9 q1
    have hw0 := wrong_eq (fp := fp) q1
    rw [zl (rf_name t1 t2 t3 tape bk bp)] at hx
    rw [zl (mf_oldRule zs u1 u2 u3 u4 fp 0 at_ names text nr (1684 + 6 * n + 1))] at hm
    change mf_oldRule zs u1 u2 u3 u4 fp 0 at_ names text nr (1684 + 6 * n + 1) = m at hm
    unfold mf_oldRule at hm
    generalize rf_name t1 t2 t3 tape bk bp = c at n1 n2 n3 hx
    obtain ⟨c1, cX, c2, c3⟩ := c
    dsimp only at n1 n2 n3 hx
    cases c1 with
    | false =>
      rw [if_neg (show ¬ false = true by decide)] at hx
      rw [if_neg (show ¬ mf_isName zs u1 u2 u3 text = true by rw [← n1]; decide), zl (mf_fails u1 u2 fp 0 2)] at hm
      obtain ⟨g1, g2⟩ := n3 n1.symm
      obtain ⟨-, -, w3, w4⟩ := hw0
      subst hx hm
      dsimp only
      rw [w4]
      exact ⟨⟨rfl, fun q => (by cases q), fun _ => ⟨g1, g2, w3⟩⟩, fun _ _ => rfl, fun q => (by cases q)⟩
    | true =>
      obtain ⟨g1, g2, g3⟩ := n2 n1.symm
      obtain ⟨rfl, rfl⟩ := Prod.mk.inj g2
      rw [if_pos (show true = true from rfl)] at hx
      rw [if_pos n1.symm, pk_us] at hm
      have hf := find_eq (trn := trn) (names := names) (zs := zs) (fr := u2) (en := u3) (text := text) (base := 0) (many := nr) (nm := cX) (fun k hk => by rw [Nat.zero_add]; exact pNm_eq (hnm k hk) g1)
      rw [hf] at hx
      rcases fh_rng (zs := zs) (fr := u2) (en := u3) (text := text) (names := names) (base := 0) (many := nr) (by omega) with ⟨r1, -⟩ | ⟨k, k1, k2, -⟩
      · rw [r1] at hx hm
        rw [if_neg (show ¬ (0 : Int32) ≤ -1 by decide), zl (bf_at 3 (nI t1))] at hx
        rw [if_pos (show (-1 : Int32) = -1 from rfl), zl (mf_fails u1 u2 fp 0 3), fails_k g3] at hm
        subst hx hm
        exact ⟨⟨rfl, fun q => (by cases q), fun _ => ⟨rfl, congrArg nI q1.1, (by show (0 : Int32) < 3; decide)⟩⟩, fun k q => pk_un (by omega), fun q => (by cases q)⟩
      · rw [k2] at hx hm
        have hk4 : k < 4 := by omega
        have hp : ¬ nI k < 0 := nI_pos (by omega)
        have hne : ¬ nI k = -1 := fun q => hp (by rw [q]; decide)
        rw [if_pos (show (0 : Int32) ≤ nI k from Int32.not_lt.mp hp), zl (rf_next zs t2 t4 tape)] at hx
        rw [if_neg hne, zl (mf_onward zs u3 text)] at hm
        obtain ⟨z1, z2⟩ := next_tk (num := t4) (rb := t2) (en := u3) h h9 q1.2.1 q1.2.2.2.1
        subst hx hm
        refine ⟨⟨rfl, fun _ => ⟨z1, rfl, by dsimp only; omega⟩, fun q => (by cases q)⟩, fun k q => pk_un (by omega), fun _ => Or.inr (Or.inr (Or.inl ⟨rfl, ?_, ?_, ?_⟩))⟩
        · dsimp only; rw [ee0, pk_un (by omega)]; exact h0
        · dsimp only; rw [ee 1, pk_us, nI_clamp (by omega)]
        · dsimp only; rw [nI_clamp (by omega)]; exact k1
  · rw [show nI (xWo 3) = (12 : Int32) from rfl] at hm
    unfold mf_yearOrder at hm
    rw [if_neg (show ¬ (12 : Int32) = 9 by decide), if_neg (show ¬ (12 : Int32) = 10 by decide), if_neg (show ¬ (12 : Int32) = 11 by decide), if_pos (show (12 : Int32) = 12 from rfl)] at hm
    rw [if_neg (show ¬ nI 3 = (0 : Int32) by decide), if_neg (show ¬ nI 3 = (1 : Int32) by decide), if_neg (show ¬ nI 3 = (4 : Int32) by decide), if_neg (show ¬ nI 3 = (2 : Int32) by decide)] at hx
    exact triv 0 (nI 3) rfl (fun a a0 => Or.inr (Or.inr (Or.inr (Or.inl ⟨rfl, a0⟩)))) hx hm
  · rw [show nI (xWo 4) = (13 : Int32) from rfl] at hm
    unfold mf_yearOrder at hm
    rw [if_neg (show ¬ (13 : Int32) = 9 by decide), if_neg (show ¬ (13 : Int32) = 10 by decide), if_neg (show ¬ (13 : Int32) = 11 by decide), if_neg (show ¬ (13 : Int32) = 12 by decide), if_pos (show (13 : Int32) = 13 from rfl)] at hm
    rw [if_neg (show ¬ nI 4 = (0 : Int32) by decide), if_neg (show ¬ nI 4 = (1 : Int32) by decide), if_pos (show nI 4 = (4 : Int32) from rfl)] at hx
    refine num1 0 16 (nI 4) hx hm (fun a v v4 v5 v1 a0 a1 => Or.inr (Or.inr (Or.inr (Or.inr (Or.inl ⟨rfl, a0, ?_, ?_⟩)))))
    · rw [nI_clamp (by omega)]; exact a1
    · dsimp only; rw [nI_clamp (by omega)]; exact le_nI (a := 16) (by omega) v5
  · rw [show nI (xWo 5) = (14 : Int32) from rfl] at hm
    unfold mf_yearOrder at hm
    rw [if_neg (show ¬ (14 : Int32) = 9 by decide), if_neg (show ¬ (14 : Int32) = 10 by decide), if_neg (show ¬ (14 : Int32) = 11 by decide), if_neg (show ¬ (14 : Int32) = 12 by decide), if_neg (show ¬ (14 : Int32) = 13 by decide), if_pos (show (14 : Int32) = 14 from rfl)] at hm
    rw [if_neg (show ¬ nI 5 = (0 : Int32) by decide), if_neg (show ¬ nI 5 = (1 : Int32) by decide), if_neg (show ¬ nI 5 = (4 : Int32) by decide), if_neg (show ¬ nI 5 = (2 : Int32) by decide)] at hx
    exact triv 0 (nI 5) rfl (fun a a0 => Or.inr (Or.inr (Or.inr (Or.inr (Or.inr (Or.inl ⟨rfl, a0⟩)))))) hx hm
  · rw [show nI (xWo 6) = (18 : Int32) from rfl] at hm
    unfold mf_yearOrder at hm
    rw [if_neg (show ¬ (18 : Int32) = 9 by decide), if_neg (show ¬ (18 : Int32) = 10 by decide), if_neg (show ¬ (18 : Int32) = 11 by decide), if_neg (show ¬ (18 : Int32) = 12 by decide), if_neg (show ¬ (18 : Int32) = 13 by decide), if_neg (show ¬ (18 : Int32) = 14 by decide), if_neg (show ¬ (18 : Int32) = 15 by decide), if_neg (show ¬ (18 : Int32) = 16 by decide)] at hm
    rw [if_neg (show ¬ nI 6 = (0 : Int32) by decide), if_neg (show ¬ nI 6 = (1 : Int32) by decide), if_neg (show ¬ nI 6 = (4 : Int32) by decide), if_neg (show ¬ nI 6 = (2 : Int32) by decide)] at hx
    exact triv 0 (nI 6) rfl (fun a a0 => Or.inr (Or.inr (Or.inr (Or.inr (Or.inr (Or.inr ⟨rfl, a0⟩)))))) hx hm
end R43
