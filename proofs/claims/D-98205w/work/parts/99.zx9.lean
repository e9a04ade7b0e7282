/-! r41: a town read on both sides -/
section R41
variable {tape text : Nat → Int32} {zs : Nat} {ra rb fr en : Nat} {sort num bk bp tk val fp fl : Int32} {at_ a : Nat → Int32} {names : Nat → Int64}
theorem cpA_n (a : Nat → Int32) : ∀ n, n ≤ 410 → ∀ k, zf mf_town_B100b a n k = if k < n then a (1640 + k) else a k := by
  intro n
  induction n with
  | zero => intro _ k; rw [if_neg (by omega)]; rfl
  | succ n ih =>
    intro hn k
    show upd (zf mf_town_B100b a n) n (zf mf_town_B100b a n (1640 + n)) k = _
    rw [ih (by omega) (1640 + n), if_neg (show ¬ 1640 + n < n by omega)]
    by_cases e : k = n
    · subst e; rw [pk_us, if_pos (by omega)]
    · rw [pk_un e, ih (by omega) k]
      by_cases q : k < n
      · rw [if_pos q, if_pos (by omega)]
      · rw [if_neg q, if_neg (by omega)]
theorem cpA (a : Nat → Int32) (k : Nat) : mf_town_L100b a k = if k < 410 then a (1640 + k) else a k := cpA_n a 410 (Nat.le_refl _) k
theorem cpN_n (a : Nat → Int64) : ∀ n, n ≤ 10 → ∀ k, zf mf_town_B131b a n k = if k < n then a (40 + k) else a k := by
  intro n
  induction n with
  | zero => intro _ k; rw [if_neg (by omega)]; rfl
  | succ n ih =>
    intro hn k
    show vp_updL (zf mf_town_B131b a n) n (zf mf_town_B131b a n (40 + n)) k = _
    rw [ih (by omega) (40 + n), if_neg (show ¬ 40 + n < n by omega)]
    by_cases e : k = n
    · subst e; rw [pk_uLs, if_pos (by omega)]
    · rw [pk_uLn e, ih (by omega) k]
      by_cases q : k < n
      · rw [if_pos q, if_pos (by omega)]
      · rw [if_neg q, if_neg (by omega)]
theorem cpN (a : Nat → Int64) (k : Nat) : mf_town_L131b a k = if k < 10 then a (40 + k) else a k := cpN_n a 10 (Nat.le_refl _) k
theorem pl_n (a : Nat → Int32) : ∀ n k, zf (mf_plain_B2 1640) a n k = if 1640 ≤ k ∧ k < 1640 + n then 0 else a k := by
  intro n
  induction n with
  | zero => intro k; rw [if_neg (by omega)]; rfl
  | succ n ih =>
    intro k
    show upd (zf (mf_plain_B2 1640) a n) (1640 + n) 0 k = _
    by_cases e : k = 1640 + n
    · subst e; rw [pk_us, if_pos (by omega)]
    · rw [pk_un e, ih k]
      by_cases q : 1640 ≤ k ∧ k < 1640 + n
      · rw [if_pos q, if_pos (by omega)]
      · rw [if_neg q, if_neg (by omega)]
theorem pl_at (a : Nat → Int32) {k : Nat} (h0 : ¬ k = 1650) (h1 : ¬ k = 1651) : mf_plain a 1640 k = if 1640 ≤ k ∧ k < 2050 then 0 else a k := by
  show upd (upd (zf (mf_plain_B2 1640) a 410) 1650 (-1)) 1651 (-1) k = _
  rw [pk_un h1, pk_un h0, pl_n]
theorem pl_50 (a : Nat → Int32) : mf_plain a 1640 1650 = -1 ∧ mf_plain a 1640 1651 = -1 := by
  show upd (upd (zf (mf_plain_B2 1640) a 410) 1650 (-1)) 1651 (-1) 1650 = -1 ∧ upd (upd (zf (mf_plain_B2 1640) a 410) 1650 (-1)) 1651 (-1) 1651 = -1
  exact ⟨by rw [pk_un (by decide), pk_us], pk_us⟩
theorem pos_n0 {x : Int32} (h : 0 < x) : ¬ x = 0 := fun q => by rw [q] at h; exact absurd h (by decide)
theorem taken_bad {g : Int32} (h : 0 < fl) : mf_taken fl g = (-1, 9, fl) := by
  unfold mf_taken
  rw [if_neg (Int32.not_le.mpr h)]
theorem taken_ok {g : Int32} : mf_taken 0 g = (g, 0, 0) := by
  unfold mf_taken
  rw [if_pos (by decide)]
abbrev yT1 : Type := Bool × Int32 × Nat × Int32 × Nat × Nat × Int32 × Int32 × Int32 × Int32 × (Nat → Int32)
theorem mTl_bad (t1 : yT1) (hf : 0 < fl) : mTl names t1 (false, tk, fr, en, val, fp, fl, a) = (-1, 9, t1.2.1, t1.2.2.1, tk, fr, en, val, fl, fp, fl, t1.2.2.2.2.2.2.2.2.2.1, a, names, t1.2.2.2.2.2.2.2.2.2.2) := by
  have e1 : mf_town_L72bb t1 (false, tk, fr, en, val, fp, fl, a) (false, tk, fr, en, val, fp, fl, a, names) = (false, tk, fr, en, val, fp, fl, a, names) := by
    unfold mf_town_L72bb
    exact zw_r (by unfold mf_town_B72bb; dsimp only; rw [if_neg (show ¬ false = true by decide)])
  unfold mTl
  dsimp only
  rw [if_neg (show ¬ false = true by decide), e1, zl (false, tk, fr, en, val, fp, fl, a, names)]
  dsimp only
  rw [if_neg (pos_n0 hf), zl (mf_taken fl (nI (zpc (a 2)))), taken_bad hf]
theorem mTl_norow (t1 : yT1) (h0 : (a 1641).toNatClampNeg = 0) {w : Bool × Int32 × Int32} (hw : mf_fails tk fr fp fl 2 = w) (hw1 : w.1 = false) (hw2 : 0 < w.2.2) : mTl names t1 (true, tk, fr, en, val, fp, fl, a) = (-1, 9, t1.2.1, t1.2.2.1, tk, fr, en, val, w.2.2, w.2.1, w.2.2, t1.2.2.2.2.2.2.2.2.2.1, a, names, t1.2.2.2.2.2.2.2.2.2.2) := by
  have e1 : mf_town_L72 t1 (true, tk, fr, en, val, fp, fl, a) w (w.1, tk, fr, en, val, w.2.1, w.2.2, a, names) = (w.1, tk, fr, en, val, w.2.1, w.2.2, a, names) := by
    unfold mf_town_L72
    exact zw_r (by unfold mf_town_B72; dsimp only; rw [if_neg (show ¬ w.1 = true by rw [hw1]; decide)])
  unfold mTl
  dsimp only
  rw [if_pos (show true = true from rfl), if_pos h0, hw, zl w, e1, zl (w.1, tk, fr, en, val, w.2.1, w.2.2, a, names)]
  dsimp only
  rw [if_neg (pos_n0 hw2), zl (mf_taken w.2.2 (nI (zpc (a 2)))), taken_bad hw2]
theorem mTl_go (t1 : yT1) (h0 : ¬ (a 1641).toNatClampNeg = 0) {w : yP9} (hw : mf_town_L72b t1 (true, tk, fr, en, val, fp, fl, a) (true, tk, fr, en, val, fp, fl, a, names) = w) : (w.2.2.2.2.2.2.1 = 0 → mTl names t1 (true, tk, fr, en, val, fp, fl, a) = (nI (zpc (mf_town_L100b w.2.2.2.2.2.2.2.1 2)), 0, t1.2.1, t1.2.2.1, w.2.1, w.2.2.1, w.2.2.2.1, w.2.2.2.2.1, 0, w.2.2.2.2.2.1, 0, t1.2.2.2.2.2.2.2.2.2.1, mf_town_L100b w.2.2.2.2.2.2.2.1, mf_town_L131b w.2.2.2.2.2.2.2.2, t1.2.2.2.2.2.2.2.2.2.2)) ∧ (0 < w.2.2.2.2.2.2.1 → mTl names t1 (true, tk, fr, en, val, fp, fl, a) = (-1, 9, t1.2.1, t1.2.2.1, w.2.1, w.2.2.1, w.2.2.2.1, w.2.2.2.2.1, w.2.2.2.2.2.2.1, w.2.2.2.2.2.1, w.2.2.2.2.2.2.1, t1.2.2.2.2.2.2.2.2.2.1, w.2.2.2.2.2.2.2.1, w.2.2.2.2.2.2.2.2, t1.2.2.2.2.2.2.2.2.2.2)) := by
  have e0 : mTl names t1 (true, tk, fr, en, val, fp, fl, a) = (fun t_20 : yP9 => (if t_20.2.2.2.2.2.2.1 = 0 then zlet (mf_town_L100b t_20.2.2.2.2.2.2.2.1) (fun s_26 => zlet (mf_town_L131b t_20.2.2.2.2.2.2.2.2) (fun s_27 => zlet (mf_taken t_20.2.2.2.2.2.2.1 (nI (zpc (s_26 2)))) (fun t_28 => (t_28.1, t_28.2.1, t1.2.1, t1.2.2.1, t_20.2.1, t_20.2.2.1, t_20.2.2.2.1, t_20.2.2.2.2.1, t_28.2.2, t_20.2.2.2.2.2.1, t_20.2.2.2.2.2.2.1, t1.2.2.2.2.2.2.2.2.2.1, s_26, s_27, t1.2.2.2.2.2.2.2.2.2.2)))) else zlet (mf_taken t_20.2.2.2.2.2.2.1 (nI (zpc (t_20.2.2.2.2.2.2.2.1 2)))) (fun t_25 => (t_25.1, t_25.2.1, t1.2.1, t1.2.2.1, t_20.2.1, t_20.2.2.1, t_20.2.2.2.1, t_20.2.2.2.2.1, t_25.2.2, t_20.2.2.2.2.2.1, t_20.2.2.2.2.2.2.1, t1.2.2.2.2.2.2.2.2.2.1, t_20.2.2.2.2.2.2.2.1, t_20.2.2.2.2.2.2.2.2, t1.2.2.2.2.2.2.2.2.2.2)))) (mf_town_L72b t1 (true, tk, fr, en, val, fp, fl, a) (true, tk, fr, en, val, fp, fl, a, names)) := by
    unfold mTl
    dsimp only
    rw [if_pos (show true = true from rfl), if_neg h0]
    rfl
  rw [e0, hw]
  obtain ⟨w1, w2, w3, w4, w5, w6, w7, w8, w9⟩ := w
  dsimp only
  constructor
  · intro q
    rw [q, if_pos (show (0 : Int32) = 0 from rfl), zl (mf_town_L100b w8), zl (mf_town_L131b w9), zl (mf_taken 0 (nI (zpc (mf_town_L100b w8 2)))), taken_ok]
  · intro q
    rw [if_neg (pos_n0 q), zl (mf_taken w7 (nI (zpc (w8 2)))), taken_bad q]
/-- x's rf_town begun with a fresh town -/
abbrev rT0 (zs ra rb : Nat) (sort num : Int32) (tape : Nat → Int32) (bk bp : Int32) : yP23 := rf_town zs ra rb sort num 0 tape bk bp 1 1 1 0 0 0 0 false (fun _ => 0) (fun _ => 0) (fun _ => 0) (fun _ => 0) (fun _ => 0) (fun _ => 0) (fun _ => 0)
abbrev xT0 (zs : Nat) (tape : Nat → Int32) (t_2 : Bool × Int32 × Nat × Nat × Int32 × Int32 × Int32 × Int32) (t_4 : Bool × Nat × Nat × Int32 × Int32 × Int32 × Int32) : yP23 := xTl zs 0 tape 1 1 0 0 0 0 (fun _ => 0) (fun _ => 0) (fun _ => 0) (fun _ => 0) (fun _ => 0) (fun _ => 0) (fun _ => 0) t_2 t_4
/-- the head: both fail alike, or both go on -/
theorem head_eq (hi : mIn (a 1640) 5) (h : pTx tape text zs) (h9 : zs ≤ 900) (hk : pTk tape zs (ra, rb, sort, num) (tk, fr, en, val)) : (∃ (x : yP23) (t : Bool × Int32 × Nat × Nat × Int32 × Int32 × Int32 × (Nat → Int32)), rT0 zs ra rb sort num tape bk bp = x ∧ mf_first zs tk fr en val (-1) 0 a text = t ∧ x.1 = false ∧ t.1 = false ∧ x.2.2.2.2.2.2.1 = t.2.2.2.2.2.2.1 ∧ x.2.2.2.2.2.2.2.1 = t.2.2.2.2.2.1 ∧ 0 < t.2.2.2.2.2.2.1 ∧ mIn (t.2.2.2.2.2.2.2 1640) 5 ∧ ∀ k, ¬ k = 1640 → ¬ k = 1649 → t.2.2.2.2.2.2.2 k = a k) ∨ (∃ (Wd : Nat) (t_2 : Bool × Int32 × Nat × Nat × Int32 × Int32 × Int32 × Int32) (t_4 : Bool × Nat × Nat × Int32 × Int32 × Int32 × Int32) (t : Bool × Int32 × Nat × Nat × Int32 × Int32 × Int32 × (Nat → Int32)), rT0 zs ra rb sort num tape bk bp = xT0 zs tape t_2 t_4 ∧ t_4.1 = true ∧ t_2.2.1.toNatClampNeg = Wd ∧ 1 ≤ Wd ∧ Wd ≤ 5 ∧ mf_first zs tk fr en val (-1) 0 a text = t ∧ t.1 = true ∧ pTk tape zs (t_4.2.1, t_4.2.2.1, t_4.2.2.2.1, t_4.2.2.2.2.1) (t.2.1, t.2.2.1, t.2.2.2.1, t.2.2.2.2.1) ∧ t.2.2.2.2.2.2.1 = 0 ∧ t.2.2.2.2.2.2.2 1640 = nI Wd ∧ t.2.2.2.2.2.2.2 1649 = (if tf_joins Wd (rf_isWord t_2.2.2.1 t_2.2.2.2.1 t_2.2.2.2.2.1 tape 11) = true then 1 else 0) ∧ ∀ k, ¬ k = 1640 → ¬ k = 1649 → t.2.2.2.2.2.2.2 k = a k) := by
  have e0 := rf_town_tl zs ra rb sort num 0 tape bk bp 1 1 1 0 0 0 0 false (fun _ => 0) (fun _ => 0) (fun _ => 0) (fun _ => 0) (fun _ => 0) (fun _ => 0) (fun _ => 0)
  change rT0 zs ra rb sort num tape bk bp = _ at e0
  obtain ⟨m, hm⟩ : ∃ m, mf_first zs tk fr en val (-1) 0 a text = m := ⟨_, rfl⟩
  rw [e0, hm]
  clear e0
  unfold mf_first at hm
  have hw := word_eq (bk := bk) (bp := bp) (fp := -1) (wi := 10) h h9 hk (by omega)
  rw [show nI (xWo 10) = (0 : Int32) from rfl] at hw
  rw [zl (rf_word zs ra rb sort num tape bk bp 10)]
  rw [zl (mf_wantWord zs tk fr en val (-1) 0 text 0)] at hm
  generalize rf_word zs ra rb sort num tape bk bp 10 = x at hw ⊢
  generalize mf_wantWord zs tk fr en val (-1) 0 text 0 = y at hw hm
  obtain ⟨p1, p2, p3⟩ := hw
  obtain ⟨x1, x2, x3, x4, x5, x6, x7⟩ := x
  obtain ⟨y1, y2, y3, y4, y5, y6, y7⟩ := y
  dsimp only at p1 p2 p3 hm ⊢
  subst p1
  cases x1 with
  | false =>
    obtain ⟨u1, u2, u3⟩ := p3 rfl
    rw [if_neg (show ¬ false = true by decide)] at hm ⊢
    subst hm
    exact Or.inl ⟨_, _, rfl, rfl, rfl, rfl, u1, u2, u3, hi, fun _ _ _ => rfl⟩
  | true =>
    obtain ⟨u1, u2, u3⟩ := p2 rfl
    subst u2
    rw [if_pos (show true = true from rfl)] at hm ⊢
    have hu := number_eq (bk := x6) (bp := x7) (fp := y6) (at_ := a) (to := 1640) (lo := 1) (hi := 5) h h9 u1
    rw [zl (rf_number zs x2 x3 x4 x5 tape x6 x7 1 5)]
    rw [zl (mf_number zs y2 y3 y4 y5 y6 0 a text 1640 1 5)] at hm
    have lo1 : ∀ k, ¬ k = 1640 → (mf_number zs y2 y3 y4 y5 y6 0 a text 1640 1 5).2.2.2.2.2.2.2 k = a k := fun k q => nu_lo q
    have lo2 : mIn ((mf_number zs y2 y3 y4 y5 y6 0 a text 1640 1 5).2.2.2.2.2.2.2 1640) 5 := by
      unfold mf_number zlet
      dsimp only
      split
      · split
        · exact hi
        · split
          · dsimp only
            rw [pk_us]
            exact mIn_v (by assumption) (by assumption)
          · exact hi
      · exact hi
    generalize rf_number zs x2 x3 x4 x5 tape x6 x7 1 5 = c at hu ⊢
    generalize mf_number zs y2 y3 y4 y5 y6 0 a text 1640 1 5 = d at hu hm lo1 lo2
    obtain ⟨⟨p1, p2, p3⟩, p4⟩ := hu
    obtain ⟨c1, cV, c2, c3, c4, c5, c6, c7⟩ := c
    obtain ⟨d1, d2, d3, d4, d5, d6, d7, d8⟩ := d
    dsimp only at p1 p2 p3 p4 hm lo1 lo2 ⊢
    subst p1
    cases c1 with
    | false =>
      obtain ⟨u1, u2, u3⟩ := p3 rfl
      rw [if_neg (show ¬ false = true by decide)] at hm ⊢
      subst hm
      exact Or.inl ⟨_, _, rfl, rfl, rfl, rfl, u1, u2, u3, lo2, fun k q1 _ => lo1 k q1⟩
    | true =>
      obtain ⟨w1, w2, w3⟩ := p2 rfl
      obtain ⟨v, v1, v2, v3, v4, v5⟩ := p4 rfl
      subst w2 v2 v3
      rw [if_pos (show true = true from rfl)] at hm ⊢
      have hv1 : 1 ≤ v := by
        apply Classical.byContradiction
        intro q
        exact v4 (nI_lt (b := 1) (by omega) (by omega))
      have hv5 : v ≤ 5 := by
        apply Classical.byContradiction
        intro q
        exact nI_ge (a := 5) (b := v) (by omega) (by omega) v5
      have ev : (nI v).toNatClampNeg = v := nI_clamp (by omega)
      have e40 : (upd a 1640 (nI v) 1640).toNatClampNeg = v := by rw [pk_us]; exact ev
      have fr9 : ∀ (z : Int32) (k : Nat), ¬ k = 1640 → ¬ k = 1649 → upd (upd a 1640 (nI v)) 1649 z k = a k := fun z k q1 q2 => by rw [pk_un q2, pk_un q1]
      have at40 : ∀ z : Int32, upd (upd a 1640 (nI v)) 1649 z 1640 = nI v := fun z => by rw [pk_un (by decide), pk_us]
      rw [zl (mf_isThere zs d2 d3 d4 d5 text 4)] at hm
      by_cases g : rf_isWord c2 c3 c4 tape 11 = true
      · have ht := there_t h h9 w1 (wi := 11) (by omega) g
        rw [show nI (xWo 11) = (4 : Int32) from rfl] at ht
        rw [ht] at hm
        rw [if_pos g, zl (rf_next zs c3 c5 tape)]
        obtain ⟨n1, n2⟩ := next_tk (num := c5) (rb := c3) (en := d4) h h9 w1.2.1 w1.2.2.2.1
        generalize rf_next zs c3 c5 tape = e at n1 ⊢
        generalize mf_onward zs d4 text = f at n1 hm
        obtain ⟨e1, e2, e3, e4⟩ := e
        obtain ⟨f1, f2, f3, f4⟩ := f
        dsimp only at hm ⊢
        rw [if_pos (show true = true from rfl), e40] at hm
        have cl := close_eq (bk := c6) (bp := c7) (fp := d6) h h9 n1
        rw [zl (rf_close zs e1 e2 e3 e4 tape c6 c7)]
        generalize rf_close zs e1 e2 e3 e4 tape c6 c7 = r at cl ⊢
        obtain ⟨J, hJ, hmJ⟩ : ∃ J : Int32, J = (if tf_joins v (rf_isWord c2 c3 c4 tape 11) = true then 1 else 0) ∧ ((mf_wantSign zs f1 f2 f3 f4 d6 0 text 59).1, (mf_wantSign zs f1 f2 f3 f4 d6 0 text 59).2.1, (mf_wantSign zs f1 f2 f3 f4 d6 0 text 59).2.2.1, (mf_wantSign zs f1 f2 f3 f4 d6 0 text 59).2.2.2.1, (mf_wantSign zs f1 f2 f3 f4 d6 0 text 59).2.2.2.2.1, (mf_wantSign zs f1 f2 f3 f4 d6 0 text 59).2.2.2.2.2.1, (mf_wantSign zs f1 f2 f3 f4 d6 0 text 59).2.2.2.2.2.2, upd (upd a 1640 (nI v)) 1649 J) = m := by
          by_cases j : v ≤ 2
          · rw [if_pos j] at hm
            refine ⟨0, ?_, hm⟩
            rw [g]
            unfold tf_joins
            rw [if_pos (show true = true from rfl), if_pos j]
            rfl
          · rw [if_neg j] at hm
            refine ⟨1, ?_, hm⟩
            rw [g]
            unfold tf_joins
            rw [if_pos (show true = true from rfl), if_neg j]
            rfl
        generalize mf_wantSign zs f1 f2 f3 f4 d6 0 text 59 = s at cl hmJ
        obtain ⟨p1, p2, p3⟩ := cl
        obtain ⟨r1, r2, r3, r4, r5, r6, r7⟩ := r
        obtain ⟨s1, s2, s3, s4, s5, s6, s7⟩ := s
        dsimp only at p1 p2 p3 hmJ
        subst p1 hmJ
        cases r1 with
        | false =>
          obtain ⟨u1, u2, u3⟩ := p3 rfl
          exact Or.inl ⟨_, _, rfl, rfl, rfl, rfl, u1, u2, u3, by dsimp only; rw [at40]; exact mIn_nI hv5 (by omega), fr9 J⟩
        | true =>
          obtain ⟨u1, u2, u3⟩ := p2 rfl
          exact Or.inr ⟨v, (true, nI v, c2, c3, c4, c5, c6, c7), _, _, rfl, rfl, ev, hv1, hv5, rfl, rfl, u1, u2, at40 J, (by dsimp only; rw [pk_us]; exact hJ), fr9 J⟩
      · have ht := there_f h h9 w1 (wi := 11) (by omega) g
        rw [show nI (xWo 11) = (4 : Int32) from rfl] at ht
        rw [ht] at hm
        dsimp only at hm
        rw [if_neg (show ¬ false = true by decide)] at hm
        rw [if_neg g]
        have cl := close_eq (bk := c6) (bp := c7) (fp := d6) h h9 w1
        rw [zl (rf_close zs c2 c3 c4 c5 tape c6 c7)]
        rw [zl (mf_wantSign zs d2 d3 d4 d5 d6 0 text 59)] at hm
        generalize rf_close zs c2 c3 c4 c5 tape c6 c7 = r at cl ⊢
        generalize mf_wantSign zs d2 d3 d4 d5 d6 0 text 59 = s at cl hm
        obtain ⟨p1, p2, p3⟩ := cl
        obtain ⟨r1, r2, r3, r4, r5, r6, r7⟩ := r
        obtain ⟨s1, s2, s3, s4, s5, s6, s7⟩ := s
        dsimp only at p1 p2 p3 hm
        subst p1 hm
        cases r1 with
        | false =>
          obtain ⟨u1, u2, u3⟩ := p3 rfl
          exact Or.inl ⟨_, _, rfl, rfl, rfl, rfl, u1, u2, u3, by dsimp only; rw [at40]; exact mIn_nI hv5 (by omega), fr9 0⟩
        | true =>
          obtain ⟨u1, u2, u3⟩ := p2 rfl
          refine Or.inr ⟨v, (true, nI v, c2, c3, c4, c5, c6, c7), _, _, rfl, rfl, ev, hv1, hv5, rfl, rfl, u1, u2, at40 0, ?_, fr9 0⟩
          dsimp only
          have g' : rf_isWord c2 c3 c4 tape 11 = false := by
            cases hb : rf_isWord c2 c3 c4 tape 11
            · rfl
            · exact absurd hb g
          rw [g', pk_us]
          unfold tf_joins
          rw [if_neg (show ¬ false = true by decide)]
          rfl
end R41
