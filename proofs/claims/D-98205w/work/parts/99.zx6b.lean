/-! r39b: a town's rules and citizens on both sides -/
section R39b
variable {tape text : Nat → Int32} {zs : Nat} {ra rb fr en : Nat} {sort num bk bp tk val fp fl : Int32} {at_ : Nat → Int32} {names : Nat → Int64} {k to : Nat}
theorem sign_lt {ch : Int32} (hk : pTk tape zs (ra, rb, sort, num) (tk, fr, en, val)) (h : (mf_wantSign zs tk fr en val fp fl text ch).1 = true) : fr < en := by
  have h4 : tk = 4 := by
    apply Classical.byContradiction
    intro q
    unfold mf_wantSign zlet at h
    rw [if_neg (show ¬ mf_isSign tk val ch = true by unfold mf_isSign; rw [if_neg q]; decide)] at h
    dsimp only at h
    unfold mf_fails at h
    by_cases c : fl = 0
    · rw [if_pos c] at h
      split at h <;> cases h
    · rw [if_neg c] at h; cases h
  obtain ⟨-, -, -, -, k5⟩ := hk
  dsimp only at k5
  rcases k5 with ⟨-, a2⟩ | ⟨-, a2, a3, -⟩ | ⟨-, a2, a3, -⟩ | ⟨-, a2, a3, -⟩ | ⟨-, a2, a3⟩
  · exact absurd (a2.symm.trans h4) (by decide)
  · exact a3
  · exact a3
  · exact a3
  · exact a3
/-- the loop over rules and citizens: x's state, the model's state -/
def pPs (tape : Nat → Int32) (zs : Nat) (at_ : Nat → Int32) (names : Nat → Int64) (s : Nat × Nat × Int32 × Int32 × Int32 × Int32 × Nat × Nat × (Nat → Int32) × (Nat → Int32) × (Nat → Int64) × (Nat → Int64) × (Nat → Int32) × (Nat → Int32)) (m : Bool × Int32 × Nat × Nat × Int32 × Int32 × Int32 × (Nat → Int32) × (Nat → Int64)) : Prop :=
  m.1 = true ∧ pTk tape zs (s.1, s.2.1, s.2.2.1, s.2.2.2.1) (m.2.1, m.2.2.1, m.2.2.2.1, m.2.2.2.2.1) ∧ m.2.2.2.2.2.2.1 = 0 ∧ (s.2.2.2.2.2.2.1 ≤ 4 ∧ s.2.2.2.2.2.2.2.1 ≤ 6 ∧ m.2.2.2.2.2.2.2.1 1645 = nI s.2.2.2.2.2.2.1 ∧ m.2.2.2.2.2.2.2.1 1646 = nI s.2.2.2.2.2.2.2.1) ∧ ((∀ k, k < s.2.2.2.2.2.2.1 → pNm (s.2.2.2.2.2.2.2.2.2.2.1 k) (m.2.2.2.2.2.2.2.2 (40 + k))) ∧ (∀ k, k < s.2.2.2.2.2.2.2.1 → pNm (s.2.2.2.2.2.2.2.2.2.2.2.1 k) (m.2.2.2.2.2.2.2.2 (44 + k)))) ∧ (∀ k, k < 4 → m.2.2.2.2.2.2.2.1 (1652 + 2 * k) = s.2.2.2.2.2.2.2.2.2.2.2.2.1 k ∧ m.2.2.2.2.2.2.2.1 (1652 + 2 * k + 1) = s.2.2.2.2.2.2.2.2.2.2.2.2.2 k ∧ (s.2.2.2.2.2.2.1 ≤ k → s.2.2.2.2.2.2.2.2.2.2.2.2.1 k = 0 ∧ s.2.2.2.2.2.2.2.2.2.2.2.2.2 k = 0)) ∧ (∀ k, k < s.2.2.2.2.2.2.2.1 → ∃ l h : Nat, l ≤ h ∧ h ≤ 30 ∧ s.2.2.2.2.2.2.2.2.1 k = nI l ∧ s.2.2.2.2.2.2.2.2.2.1 k = nI h ∧ m.2.2.2.2.2.2.2.1 (1660 + 2 * k) = nI l ∧ m.2.2.2.2.2.2.2.1 (1660 + 2 * k + 1) = nI h) ∧ m.2.2.2.2.2.2.2.1 1650 = (if s.2.2.2.2.2.2.1 = 0 then -1 else 0) ∧ (∀ k, ¬ k = 1645 → ¬ k = 1646 → ¬ k = 1650 → ¬ (1652 ≤ k ∧ k < 1672) → m.2.2.2.2.2.2.2.1 k = at_ k) ∧ (∀ k, k < 40 → m.2.2.2.2.2.2.2.2 k = names k)
/-- one part on both sides -/
theorem part_eq {tbeside : Nat → Int32} (h : pTx tape text zs) (h9 : zs ≤ 900) (t_2 : Bool × Int32 × Nat × Nat × Int32 × Int32 × Int32 × Int32) (t_5 : Nat × Nat × Int32 × Int32 × Int32 × Int32 × Int32 × Nat × Int32 × Int32 × Int32) (s : yP14) (m : yP9) (hs : pPs tape zs at_ names s m) (h0 : ¬ m.2.1 = 0) (m' : yP9) (hm : mf_townPart zs m.2.1 m.2.2.1 m.2.2.2.1 m.2.2.2.2.1 m.2.2.2.2.2.1 m.2.2.2.2.2.2.1 m.2.2.2.2.2.2.2.1 m.2.2.2.2.2.2.2.2 text = m') : (∃ s', rf_town_B80b zs tape tbeside t_2 t_5 s = .inl s' ∧ pPs tape zs at_ names s' m' ∧ m.2.2.2.1 < m'.2.2.1) ∨ (∃ r, rf_town_B80b zs tape tbeside t_2 t_5 s = .inr (.inr r) ∧ r.1 = false ∧ m'.1 = false ∧ r.2.2.2.2.2.2.1 = m'.2.2.2.2.2.2.1 ∧ r.2.2.2.2.2.2.2.1 = m'.2.2.2.2.2.1 ∧ 0 < m'.2.2.2.2.2.2.1 ∧ mIn (m'.2.2.2.2.2.2.2.1 1645) 4 ∧ mIn (m'.2.2.2.2.2.2.2.1 1646) 6) := by
  obtain ⟨ra, rb, sort, num, bk, bp, nr, nc, tleast, tmost, trn, cn, tborn, tstays⟩ := s
  obtain ⟨mo, tk, fr, en, val, fp, fl, a, nms⟩ := m
  obtain ⟨r1, r2, r3, ⟨b4, b6, c45, c46⟩, ⟨n1, n2⟩, hbs, hls, h50, hfr, hnm⟩ := hs
  dsimp only at r1 r2 r3 b4 b6 c45 c46 n1 n2 hbs hls h50 hfr hnm h0 hm
  subst r1 r3
  have k45 : (a 1645).toNatClampNeg = nr := by rw [c45, nI_clamp (by omega)]
  have k46 : (a 1646).toNatClampNeg = nc := by rw [c46, nI_clamp (by omega)]
  have i45 : mIn (a 1645) 4 := by rw [c45]; exact mIn_nI b4 (by omega)
  have i46 : mIn (a 1646) 6 := by rw [c46]; exact mIn_nI b6 (by omega)
  have hso : ¬ sort = 0 := fun q => h0 ((tk_end r2).mp q)
  have hi13 := word_iff h h9 r2 (wi := 13) (by omega)
  have hi16 := word_iff h h9 r2 (wi := 16) (by omega)
  dsimp only at hi13 hi16
  rw [show nI (xWo 13) = (2 : Int32) from rfl] at hi13
  rw [show nI (xWo 16) = (3 : Int32) from rfl] at hi16
  have hfe := r2.2.2.1
  dsimp only at hfe
  unfold mf_townPart at hm
  unfold rf_town_B80b
  dsimp only
  rw [if_neg hso]
  by_cases c : rf_isWord ra rb sort tape 13 = true
  · have htk := word_tk r2 c
    rw [if_pos c, zl (rf_rule zs ra rb sort num tape bk bp nr nc trn cn tborn tstays)]
    rw [if_pos (hi13.mp c), zl (mf_aRule zs tk fr en val fp 0 a nms text)] at hm
    have z46 := (rule_p (zs := zs) (tk := tk) (fr := fr) (en := en) (val := val) (fp := fp) (fl := 0) (at_ := a) (names := nms) (text := text)).1 1646 (by decide) (by decide)
    have z45 := (rule_p (zs := zs) (tk := tk) (fr := fr) (en := en) (val := val) (fp := fp) (fl := 0) (at_ := a) (names := nms) (text := text)).2.1
    by_cases f : nr = 4
    · obtain ⟨g1, g2⟩ := rule_full (bk := bk) (bp := bp) (fp := fp) (names := nms) (nc := nc) (trn := trn) (cn := cn) (tborn := tborn) (tstays := tstays) r2 (by rw [htk]; decide) (k45.trans f)
      subst f
      generalize rf_rule zs ra rb sort num tape bk bp 4 nc trn cn tborn tstays = x at g1 ⊢
      generalize mf_aRule zs tk fr en val fp 0 a nms text = y at g1 g2 hm z45 z46
      obtain ⟨p1, -, p3⟩ := g1
      dsimp only at p1 p3
      obtain ⟨u1, u2, u3⟩ := p3 g2
      rw [g2] at p1
      rw [if_neg (by rw [g2]; decide)] at hm
      rw [if_neg (by rw [p1]; decide)]
      subst hm
      exact Or.inr ⟨_, rfl, rfl, rfl, u1, u2, u3, by dsimp only; rw [z45 g2]; exact i45, by dsimp only; rw [z46]; exact i46⟩
    · have hz := hbs nr (by omega)
      obtain ⟨g1, g2⟩ := rule_eq (bk := bk) (bp := bp) (fp := fp) (tborn := tborn) (tstays := tstays) h h9 r2 k45 (by omega) k46 b6 n1 n2 (hz.1.trans (hz.2.2 (Nat.le_refl _)).1) (hz.2.1.trans (hz.2.2 (Nat.le_refl _)).2)
      generalize rf_rule zs ra rb sort num tape bk bp nr nc trn cn tborn tstays = x at g1 g2 ⊢
      generalize mf_aRule zs tk fr en val fp 0 a nms text = y at g1 g2 hm z45 z46
      obtain ⟨p1, p2, p3⟩ := g1
      obtain ⟨xo, x2, x3, x4, x5, x6, x7, x8⟩ := x
      obtain ⟨yo, y2, y3, y4, y5, y6, y7, y8, y9⟩ := y
      dsimp only at p1 p2 p3 g2 hm z45 z46 ⊢
      subst p1
      cases xo with
      | false =>
        obtain ⟨u1, u2, u3⟩ := p3 rfl
        rw [if_neg (by decide)] at hm ⊢
        subst hm
        exact Or.inr ⟨_, rfl, rfl, rfl, u1, u2, u3, by dsimp only; rw [z45 rfl]; exact i45, by dsimp only; rw [z46]; exact i46⟩
      | true =>
        obtain ⟨u1, u2, u3⟩ := p2 rfl
        obtain ⟨X, M, bo, st, hN, e1, e2⟩ := g2 rfl
        subst u2 e1
        obtain ⟨rfl, rfl⟩ := Prod.mk.inj e2
        rw [if_pos rfl] at hm ⊢
        have cl := close_eq (bk := x6) (bp := x7) (fp := y6) h h9 u1
        have hlt := sign_lt (fp := y6) (fl := 0) (text := text) (ch := 59) u1
        have v0 := u1.2.2.1
        dsimp only at v0 ⊢
        rw [zl (rf_close zs x2 x3 x4 x5 tape x6 x7)]
        rw [zl (mf_wantSign zs y2 y3 y4 y5 y6 0 text 59)] at hm
        generalize rf_close zs x2 x3 x4 x5 tape x6 x7 = g at cl ⊢
        generalize mf_wantSign zs y2 y3 y4 y5 y6 0 text 59 = w at cl hm hlt
        obtain ⟨p1, p2, p3⟩ := cl
        obtain ⟨go, g2, g3, g4, g5, g6, g7⟩ := g
        obtain ⟨wo, w2, w3, w4, w5, w6, w7⟩ := w
        dsimp only at p1 p2 p3 hm hlt ⊢
        subst p1
        cases go with
        | false =>
          obtain ⟨u1, u2, u3⟩ := p3 rfl
          rw [if_neg (by decide)] at hm ⊢
          subst hm
          exact Or.inr ⟨_, rfl, rfl, rfl, u1, u2, u3, by dsimp only; rw [pk_un (by omega), pk_us]; exact mIn_nI (by omega) (by omega), by dsimp only; rw [z46]; exact i46⟩
        | true =>
          obtain ⟨z1, z2, z3⟩ := p2 rfl
          rw [if_pos rfl] at hm ⊢
          subst hm z2
          have hN4 : ∀ j, ¬ j = 1652 + 2 * nr → ¬ j = 1652 + 2 * nr + 1 → ¬ j = 1645 → ¬ j = 1650 → upd (upd (upd (upd a (1652 + (2 * nr)) bo) (1652 + (2 * nr) + 1) st) 1645 (nI (nr + 1))) 1650 0 j = a j := fun j j1 j2 j3 j4 => by rw [pk_un j4, pk_un j3, pk_un j2, pk_un j1]
          refine Or.inl ⟨_, rfl, ⟨rfl, z1, rfl, ⟨?_, b6, ?_, ?_⟩, ⟨fun k hk => ?_, fun k hk => ?_⟩, fun k hk => ?_, fun k hk => ?_, ?_, fun k k1 k2 k3 k4 => ?_, fun k hk => ?_⟩, ?_⟩
          · dsimp only; omega
          · dsimp only; rw [pk_un (by omega), pk_us]
          · dsimp only; rw [hN4 1646 (by omega) (by omega) (by omega) (by omega)]; exact c46
          · dsimp only at hk ⊢
            by_cases q : k = nr
            · subst q; rw [pk_uLs, pk_uLs]; exact hN
            · rw [pk_uLn q, pk_uLn (show 40 + k ≠ 40 + nr by omega)]; exact n1 k (by omega)
          · dsimp only at hk ⊢
            rw [pk_uLn (show 44 + k ≠ 40 + nr by omega)]; exact n2 k hk
          · dsimp only
            obtain ⟨o1, o2, o3⟩ := hbs k hk
            by_cases q : k = nr
            · subst q
              refine ⟨?_, ?_, fun q => by omega⟩
              · rw [pk_un (by omega), pk_un (by omega), pk_un (by omega), pk_us, pk_us]
              · rw [pk_un (by omega), pk_un (by omega), pk_us, pk_us]
            · rw [hN4 _ (by omega) (by omega) (by omega) (by omega), hN4 _ (by omega) (by omega) (by omega) (by omega), pk_un q, pk_un q]
              exact ⟨o1, o2, fun w => o3 (by omega)⟩
          · dsimp only at hk ⊢
            obtain ⟨l, hh, o1, o2, o3, o4, o5, o6⟩ := hls k hk
            exact ⟨l, hh, o1, o2, o3, o4, (hN4 _ (by omega) (by omega) (by omega) (by omega)).trans o5, (hN4 _ (by omega) (by omega) (by omega) (by omega)).trans o6⟩
          · dsimp only; rw [pk_us, if_neg (by omega)]
          · dsimp only; rw [hN4 _ (by omega) (by omega) (by omega) (by omega)]; exact hfr k k1 k2 k3 k4
          · dsimp only; rw [pk_uLn (show k ≠ 40 + nr by omega)]; exact hnm k hk
          · dsimp only; have hl2 := hlt rfl; omega
  · have nc13 : ¬ mf_inWords zs tk fr en text = 2 := fun q => c (hi13.mpr q)
    rw [if_neg c]
    rw [if_neg nc13] at hm
    by_cases c2 : rf_isWord ra rb sort tape 16 = true
    · have htk := word_tk r2 c2
      rw [if_pos c2, zl (rf_citizen zs ra rb sort num tape bk bp nr nc tleast tmost trn cn)]
      rw [if_pos (hi16.mp c2), zl (mf_aCitizen zs tk fr en val fp 0 a nms text)] at hm
      have z45 := (cit_p (zs := zs) (tk := tk) (fr := fr) (en := en) (val := val) (fp := fp) (fl := 0) (at_ := a) (names := nms) (text := text)).1 1645 (by decide) (by decide)
      have z46 := (cit_p (zs := zs) (tk := tk) (fr := fr) (en := en) (val := val) (fp := fp) (fl := 0) (at_ := a) (names := nms) (text := text)).2.1
      by_cases f : nc = 6
      · obtain ⟨g1, g2⟩ := cit_full (bk := bk) (bp := bp) (fp := fp) (names := nms) (nr := nr) (trn := trn) (cn := cn) (tleast := tleast) (tmost := tmost) r2 (by rw [htk]; decide) (k46.trans f)
        subst f
        generalize rf_citizen zs ra rb sort num tape bk bp nr 6 tleast tmost trn cn = x at g1 ⊢
        generalize mf_aCitizen zs tk fr en val fp 0 a nms text = y at g1 g2 hm z45 z46
        obtain ⟨p1, -, p3⟩ := g1
        dsimp only at p1 p3
        obtain ⟨u1, u2, u3⟩ := p3 g2
        rw [g2] at p1
        rw [if_neg (by rw [g2]; decide)] at hm
        rw [if_neg (by rw [p1]; decide)]
        subst hm
        exact Or.inr ⟨_, rfl, rfl, rfl, u1, u2, u3, by dsimp only; rw [z45]; exact i45, by dsimp only; rw [z46 g2]; exact i46⟩
      · obtain ⟨g1, g2⟩ := cit_eq (bk := bk) (bp := bp) (fp := fp) (tleast := tleast) (tmost := tmost) h h9 r2 k45 b4 k46 (by omega) n1 n2
        generalize rf_citizen zs ra rb sort num tape bk bp nr nc tleast tmost trn cn = x at g1 g2 ⊢
        generalize mf_aCitizen zs tk fr en val fp 0 a nms text = y at g1 g2 hm z45 z46
        obtain ⟨p1, p2, p3⟩ := g1
        obtain ⟨xo, x2, x3, x4, x5, x6, x7, x8⟩ := x
        obtain ⟨yo, y2, y3, y4, y5, y6, y7, y8, y9⟩ := y
        dsimp only at p1 p2 p3 g2 hm z45 z46 ⊢
        subst p1
        cases xo with
        | false =>
          obtain ⟨u1, u2, u3⟩ := p3 rfl
          rw [if_neg (by decide)] at hm ⊢
          subst hm
          exact Or.inr ⟨_, rfl, rfl, rfl, u1, u2, u3, by dsimp only; rw [z45]; exact i45, by dsimp only; rw [z46 rfl]; exact i46⟩
        | true =>
          obtain ⟨u1, u2, u3⟩ := p2 rfl
          obtain ⟨X, M, l, mm, hN, l1, l2, e1, e2⟩ := g2 rfl
          subst u2 e1
          obtain ⟨rfl, rfl⟩ := Prod.mk.inj e2
          rw [if_pos rfl] at hm ⊢
          have cl := close_eq (bk := x6) (bp := x7) (fp := y6) h h9 u1
          have hlt := sign_lt (fp := y6) (fl := 0) (text := text) (ch := 59) u1
          have v0 := u1.2.2.1
          dsimp only at v0 ⊢
          rw [zl (rf_close zs x2 x3 x4 x5 tape x6 x7)]
          rw [zl (mf_wantSign zs y2 y3 y4 y5 y6 0 text 59)] at hm
          generalize rf_close zs x2 x3 x4 x5 tape x6 x7 = g at cl ⊢
          generalize mf_wantSign zs y2 y3 y4 y5 y6 0 text 59 = w at cl hm hlt
          obtain ⟨p1, p2, p3⟩ := cl
          obtain ⟨go, g2, g3, g4, g5, g6, g7⟩ := g
          obtain ⟨wo, w2, w3, w4, w5, w6, w7⟩ := w
          dsimp only at p1 p2 p3 hm hlt ⊢
          subst p1
          cases go with
          | false =>
            obtain ⟨u1, u2, u3⟩ := p3 rfl
            rw [if_neg (by decide)] at hm ⊢
            subst hm
            exact Or.inr ⟨_, rfl, rfl, rfl, u1, u2, u3, by dsimp only; rw [z45]; exact i45, by dsimp only; rw [pk_us]; exact mIn_nI (by omega) (by omega)⟩
          | true =>
            obtain ⟨z1, z2, z3⟩ := p2 rfl
            rw [if_pos rfl] at hm ⊢
            subst hm z2
            have hN4 : ∀ j, ¬ j = 1660 + 2 * nc → ¬ j = 1660 + 2 * nc + 1 → ¬ j = 1646 → upd (upd (upd a (1660 + (2 * nc)) (nI l)) (1660 + (2 * nc) + 1) (nI mm)) 1646 (nI (nc + 1)) j = a j := fun j j1 j2 j3 => by rw [pk_un j3, pk_un j2, pk_un j1]
            refine Or.inl ⟨_, rfl, ⟨rfl, z1, rfl, ⟨b4, ?_, ?_, ?_⟩, ⟨fun k hk => ?_, fun k hk => ?_⟩, fun k hk => ?_, fun k hk => ?_, ?_, fun k k1 k2 k3 k4 => ?_, fun k hk => ?_⟩, ?_⟩
            · dsimp only; omega
            · dsimp only; rw [hN4 1645 (by omega) (by omega) (by omega)]; exact c45
            · dsimp only; rw [pk_us]
            · dsimp only at hk ⊢
              rw [pk_uLn (show 40 + k ≠ 44 + nc by omega)]; exact n1 k hk
            · dsimp only at hk ⊢
              by_cases q : k = nc
              · subst q; rw [pk_uLs, pk_uLs]; exact hN
              · rw [pk_uLn q, pk_uLn (show 44 + k ≠ 44 + nc by omega)]; exact n2 k (by omega)
            · dsimp only
              obtain ⟨o1, o2, o3⟩ := hbs k hk
              rw [hN4 _ (by omega) (by omega) (by omega), hN4 _ (by omega) (by omega) (by omega)]
              exact ⟨o1, o2, o3⟩
            · dsimp only at hk ⊢
              by_cases q : k = nc
              · subst q
                refine ⟨l, mm, l1, l2, pk_us, pk_us, ?_, ?_⟩
                · rw [pk_un (by omega), pk_un (by omega), pk_us]
                · rw [pk_un (by omega), pk_us]
              · obtain ⟨l', hh, o1, o2, o3, o4, o5, o6⟩ := hls k (by omega)
                rw [hN4 _ (by omega) (by omega) (by omega), hN4 _ (by omega) (by omega) (by omega), pk_un q, pk_un q]
                exact ⟨l', hh, o1, o2, o3, o4, o5, o6⟩
            · dsimp only; rw [hN4 1650 (by omega) (by omega) (by omega)]; exact h50
            · dsimp only; rw [hN4 _ (by omega) (by omega) (by omega)]; exact hfr k k1 k2 k3 k4
            · dsimp only; rw [pk_uLn (show k ≠ 44 + nc by omega)]; exact hnm k hk
            · dsimp only; have hl2 := hlt rfl; omega
    · rw [if_neg c2, zl (rf_wrong ra sort)]
      rw [if_neg (fun q => c2 (hi16.mpr q)), zl (mf_fails tk fr fp 0 2)] at hm
      obtain ⟨w1, w2, w3, w4⟩ := wrong_eq (fp := fp) r2
      subst hm
      exact Or.inr ⟨_, rfl, rfl, w4, w1, w2, w3, i45, i46⟩
theorem parts_eq {tbeside : Nat → Int32} (h : pTx tape text zs) (h9 : zs ≤ 900) (t_2 : Bool × Int32 × Nat × Nat × Int32 × Int32 × Int32 × Int32) (t_5 : Nat × Nat × Int32 × Int32 × Int32 × Int32 × Int32 × Nat × Int32 × Int32 × Int32) (t1 : Bool × Int32 × Nat × Int32 × Nat × Nat × Int32 × Int32 × Int32 × Int32 × (Nat → Int32)) (hz1 : t1.2.2.1 = zs) (hx1 : t1.2.2.2.2.2.2.2.2.2.2 = text) (t5 : Bool × Int32 × Nat × Nat × Int32 × Int32 × Int32 × (Nat → Int32)) (d : yP14 ⊕ yP23) (d' : yP9) : ∀ n n' s m, pPs tape zs at_ names s m → zs - s.1 < n → 1 + (zs - m.2.2.2.1) < n' → (∃ s' m', zw (rf_town_B80b zs tape tbeside t_2 t_5) d n s = .inl s' ∧ zw (mf_town_B72b t1 t5) d' n' m = m' ∧ pPs tape zs at_ names s' m') ∨ (∃ r m', zw (rf_town_B80b zs tape tbeside t_2 t_5) d n s = .inr r ∧ zw (mf_town_B72b t1 t5) d' n' m = m' ∧ r.1 = false ∧ m'.1 = false ∧ r.2.2.2.2.2.2.1 = m'.2.2.2.2.2.2.1 ∧ r.2.2.2.2.2.2.2.1 = m'.2.2.2.2.2.1 ∧ 0 < m'.2.2.2.2.2.2.1 ∧ ((∀ k, k < 1645 → m'.2.2.2.2.2.2.2.1 k = at_ k) ∧ mIn (m'.2.2.2.2.2.2.2.1 1645) 4 ∧ mIn (m'.2.2.2.2.2.2.2.1 1646) 6) ∧ ∀ k, k < 40 → m'.2.2.2.2.2.2.2.2 k = names k) := by
  intro n
  induction n with
  | zero => exact fun n' s m _ hn => absurd hn (Nat.not_lt_zero _)
  | succ n ih =>
    intro n' s m hs hn hn'
    obtain ⟨n', rfl⟩ : ∃ z, n' = z + 1 := ⟨n' - 1, by omega⟩
    have hs' := hs
    obtain ⟨r1, r2, r3, -, -, -, -, -, hfr, hnm⟩ := hs
    by_cases c : m.2.1 = 0
    · have ex : rf_town_B80b zs tape tbeside t_2 t_5 s = .inr (.inl s) := by
        unfold rf_town_B80b
        rw [if_pos ((tk_end r2).mpr c)]
      have em : mf_town_B72b t1 t5 m = .inr m := by
        unfold mf_town_B72b
        rw [if_pos r1, if_pos c]
      exact Or.inl ⟨s, m, zw_r ex, zw_r em, hs'⟩
    · have em : mf_town_B72b t1 t5 m = .inl (mf_townPart zs m.2.1 m.2.2.1 m.2.2.2.1 m.2.2.2.2.1 m.2.2.2.2.2.1 m.2.2.2.2.2.2.1 m.2.2.2.2.2.2.2.1 m.2.2.2.2.2.2.2.2 text) := by
        unfold mf_town_B72b
        rw [if_pos r1, if_neg c, hz1, hx1]
        rfl
      rw [zw_l em]
      rcases part_eq (tbeside := tbeside) h h9 t_2 t_5 s m hs' c _ rfl with ⟨s', e1, e2, e3⟩ | ⟨r, e1, e2, e3, e4, e5, e6, e7, e8⟩
      · rw [zw_l e1]
        have q1 := r2.1
        have q2 := e2.2.1.1
        have q3 := r2.2.2.1
        have q4 := e2.2.1.2.2.1
        have q5 := e2.2.1.2.2.2.1
        dsimp only at q1 q2 q3 q4 q5
        exact ih n' s' _ e2 (by omega) (by omega)
      · obtain ⟨n', rfl⟩ : ∃ z, n' = z + 1 := ⟨n' - 1, by omega⟩
        refine Or.inr ⟨r, _, zw_r e1, zw_r ?_, e2, e3, e4, e5, e6, ⟨fun k hk => (part_p.1 k hk).trans (hfr k (by omega) (by omega) (by omega) (by omega)), e7, e8⟩, fun k hk => (part_p.2.1 k hk).trans (hnm k hk)⟩
        unfold mf_town_B72b
        rw [if_neg (by rw [e3]; decide)]
end R39b
