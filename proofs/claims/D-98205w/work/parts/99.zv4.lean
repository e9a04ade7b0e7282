/-! r23: the plain laws of live and mean -/
section R23
variable {a b lo ra : Nat → Int32} {Wd R nr nc nn : Nat} {ulit umayor unight uoil : Int32} {uborn ustays useen : Nat → Int32} {thouses talways tnever : Int32} {tring : Bool} {tbeside tleast tmost : Nat → Int32} {trnames : Nat → Int64}
theorem zero5 : ∀ k, k < 5 → mf_lives_L12 ra k = 0 := by
  intro k hk
  show upd (upd (upd (upd (upd ra 0 0) 1 0) 2 0) 3 0) 4 0 k = 0
  have : k = 0 ∨ k = 1 ∨ k = 2 ∨ k = 3 ∨ k = 4 := by omega
  rcases this with rfl | rfl | rfl | rfl | rfl <;> rfl
theorem told5 (t : Int32 × Int32 × (Nat → Int32) × (Nat → Int32) × (Nat → Int32) × (Nat → Int32)) (to : Nat → Int32) : ∀ k, k < 5 → mf_live_L43 t to k = t.2.2.2.2.2 k := by
  intro k hk
  show upd (upd (upd (upd (upd to 0 (t.2.2.2.2.2 0)) 1 (t.2.2.2.2.2 1)) 2 (t.2.2.2.2.2 2)) 3 (t.2.2.2.2.2 3)) 4 (t.2.2.2.2.2 4) k = t.2.2.2.2.2 k
  have : k = 0 ∨ k = 1 ∨ k = 2 ∨ k = 3 ∨ k = 4 := by omega
  rcases this with rfl | rfl | rfl | rfl | rfl <;> rfl
theorem last5 (f : Nat → Int32) (v0 v1 v2 v3 v4 : Int32) {g : Nat → Int32} (h0 : g 0 = v0) (h1 : g 1 = v1) (h2 : g 2 = v2) (h3 : g 3 = v3) (h4 : g 4 = v4) : ∀ k, k < 5 → upd (upd (upd (upd (upd f 0 v0) 1 v1) 2 v2) 3 v3) 4 v4 k = g k := by
  intro k hk
  have : k = 0 ∨ k = 1 ∨ k = 2 ∨ k = 3 ∨ k = 4 := by omega
  rcases this with rfl | rfl | rfl | rfl | rfl
  · exact h0.symm
  · exact h1.symm
  · exact h2.symm
  · exact h3.symm
  · exact h4.symm
/-- one run of the table, from its start -/
theorem r_lives {cs : List (yT 3)} {seed : Int32} (hE : lvE a Wd R nr nc nn thouses talways tnever tbeside tleast tmost) (hen : yEncs (yEnc a Wd R nr 3) cs 0 nn) (h : pH a Wd R nr ulit umayor unight uoil uborn ustays useen thouses talways tnever tbeside) (hL : pL thouses talways tnever ulit) (hs : ∀ k, k < 10 → ¬ useen k < 0 ∧ useen k ≤ 3) (hlo : mLP lo) : ∃ (rs' : Nat), lvR a Wd R nr uborn ustays thouses talways tnever tbeside (yAll (fun t => yGo (yDoes (Wd, R, nr, nc, thouses, talways, tnever, tring, uborn, ustays, tbeside, tleast, tmost, trnames) 3 t)) cs (seed, 0, 0, 0, 0, 0, false, false, ulit, umayor, unight, uoil, useen)) (mf_lives a b lo ra Wd R nr nc nn seed).1 rs' (mf_lives a b lo ra Wd R nr nc nn seed).2.2.1 (mf_lives a b lo ra Wd R nr nc nn seed).2.2.2.2.2 ∧ mLP (mf_lives a b lo ra Wd R nr nc nn seed).2.2.2.2.1 ∧ (mf_lives a b lo ra Wd R nr nc nn seed).2.1 = nI rs' := by
  have hR : lvR a Wd R nr uborn ustays thouses talways tnever tbeside (seed, 0, 0, 0, 0, 0, false, false, ulit, umayor, unight, uoil, useen) seed 0 a (mf_lives_L12 ra) := ⟨rfl, rfl, ⟨zero5 0 (by omega), zero5 1 (by omega), zero5 2 (by omega), zero5 3 (by omega), zero5 4 (by omega)⟩, h, hL, hs, fun _ _ _ _ _ _ => rfl⟩
  obtain ⟨dr', rs', a', b', lo', ra', p1, p2, p3, p4⟩ := year_run (tring := tring) (trnames := trnames) (b := b) hE hen hR rfl hlo
  have e : mf_lives a b lo ra Wd R nr nc nn seed = (dr', nI rs', a', b', lo', ra') := by
    unfold mf_lives zlet
    exact p4
  rw [e]
  exact ⟨rs', p1, p3, rfl⟩
theorem rr_live {cs : List (yT 3)} {seed dd rx : Int32} {it : Bool} {to xlast : Nat → Int32} (hE : lvE a Wd R nr nc nn thouses talways tnever tbeside tleast tmost) (hen : yEncs (yEnc a Wd R nr 3) cs 0 nn) (h : pH a Wd R nr ulit umayor unight uoil uborn ustays useen thouses talways tnever tbeside) (hL : pL thouses talways tnever ulit) (hs : ∀ k, k < 10 → ¬ useen k < 0 ∧ useen k ≤ 3) (hlo : mLP lo) (hin : xf_isIn seed.toInt64 0 9999 = true) {Y : yS} (hY : Y = yAll (fun t => yGo (yDoes (Wd, R, nr, nc, thouses, talways, tnever, tring, uborn, ustays, tbeside, tleast, tmost, trnames) 3 t)) cs (seed, 0, 0, 0, 0, 0, false, false, ulit, umayor, unight, uoil, useen)) : Y.2.1 = (mf_live dd rx it a b lo ra to Wd R nr nc nn seed).1 ∧ (mf_live dd rx it a b lo ra to Wd R nr nc nn seed).2.1 = 0 ∧ (mf_live dd rx it a b lo ra to Wd R nr nc nn seed).2.2.2.2.1 = true ∧ pH (mf_live dd rx it a b lo ra to Wd R nr nc nn seed).2.2.2.2.2.1 Wd R nr Y.2.2.2.2.2.2.2.2.1 Y.2.2.2.2.2.2.2.2.2.1 Y.2.2.2.2.2.2.2.2.2.2.1 Y.2.2.2.2.2.2.2.2.2.2.2.1 uborn ustays Y.2.2.2.2.2.2.2.2.2.2.2.2 thouses talways tnever tbeside ∧ pL thouses talways tnever Y.2.2.2.2.2.2.2.2.1 ∧ (∀ k, k < 10 → ¬ Y.2.2.2.2.2.2.2.2.2.2.2.2 k < 0 ∧ Y.2.2.2.2.2.2.2.2.2.2.2.2 k ≤ 3) ∧ (∀ j, ¬ j = 3 → ¬ j = 7 → ¬ j = 8 → ¬ j = 10 → ¬ (32 ≤ j ∧ j < 42) → (mf_live dd rx it a b lo ra to Wd R nr nc nn seed).2.2.2.2.2.1 j = a j) ∧ mLP (mf_live dd rx it a b lo ra to Wd R nr nc nn seed).2.2.2.2.2.2.2.1 ∧ ∀ k, k < 5 → (upd (upd (upd (upd (upd xlast 0 Y.2.2.1) 1 Y.2.2.2.1) 2 Y.2.2.2.2.1) 3 Y.2.2.2.2.2.1) 4 (zb Y.2.2.2.2.2.2.2.1)) k = (mf_live dd rx it a b lo ra to Wd R nr nc nn seed).2.2.2.2.2.2.2.2.2 k := by
  obtain ⟨rs', q0, q1, q2⟩ := r_lives (seed := seed) (tring := tring) (trnames := trnames) (b := b) (ra := ra) hE hen h hL hs hlo
  rw [← hY] at q0
  have h11 : ¬ a 11 = -1 := by
    rw [hE.1.2.1]
    intro q
    exact nI_pos (n := nn) (by have := hE.1.2.2.1; omega) (by rw [q]; decide)
  have e : mf_live dd rx it a b lo ra to Wd R nr nc nn seed = ((mf_lives a b lo ra Wd R nr nc nn seed).2.1, 0, (mf_lives a b lo ra Wd R nr nc nn seed).1, (mf_lives a b lo ra Wd R nr nc nn seed).2.1, true, (mf_lives a b lo ra Wd R nr nc nn seed).2.2.1, (mf_lives a b lo ra Wd R nr nc nn seed).2.2.2.1, (mf_lives a b lo ra Wd R nr nc nn seed).2.2.2.2.1, (mf_lives a b lo ra Wd R nr nc nn seed).2.2.2.2.2, mf_live_L43 (mf_lives a b lo ra Wd R nr nc nn seed) to) := by
    unfold mf_live
    rw [r_in, if_pos hin, if_neg h11]
    rfl
  rw [e]
  generalize mf_lives a b lo ra Wd R nr nc nn seed = t at q0 q1 q2 ⊢
  obtain ⟨p0, p1, ⟨p2, p3, p4, p5, p6⟩, p7, p8, p9, p10⟩ := q0
  refine ⟨p1.trans q2.symm, rfl, rfl, p7, p8, p9, p10, q1, fun k hk => ?_⟩
  dsimp only
  rw [told5 t to k hk]
  exact last5 xlast _ _ _ _ _ p2 p3 p4 p5 p6 k hk
/-- mean -/
theorem pH_same {a' bo st se : Nat → Int32} (h : pH a Wd R nr ulit umayor unight uoil uborn ustays useen thouses talways tnever tbeside) (e : ∀ j, j < 44 → a' j = a j) (hb : ∀ k, k < 4 → bo k = uborn k) (ht : ∀ k, k < 4 → st k = ustays k) (hse : ∀ k, k < 10 → se k = useen k) : pH a' Wd R nr ulit umayor unight uoil bo st se thouses talways tnever tbeside := by
  obtain ⟨⟨h2, h4, hn⟩, h3, h34, h7, h8, h10, hm, hr, hbb, hss⟩ := h
  refine ⟨⟨?_, ?_, fun k hk => ?_⟩, ?_, ?_, ?_, ?_, ?_, hm, hr, fun k hk => ⟨?_, ?_⟩, fun k hk => ?_⟩
  · rw [e 2 (by omega)]; exact h2
  · rw [e 4 (by omega)]; exact h4
  · rw [hn k hk]; exact (mf_near_same (e 2 (by omega)) (e 9 (by omega)) k).symm
  · rw [e 3 (by omega)]; exact h3
  · rw [e 3 (by omega), e 4 (by omega)]; exact h34
  · rw [e 7 (by omega)]; exact h7
  · rw [e 8 (by omega)]; exact h8
  · rw [e 10 (by omega)]; exact h10
  · rw [e _ (by omega), hb k hk]; exact (hbb k hk).1
  · rw [e _ (by omega), ht k hk]; exact (hbb k hk).2
  · rw [e _ (by omega), hse k hk]; exact hss k hk
theorem yRow_same {a' : Nat → Int32} {k : Nat} {t : Int32 × Nat} (e : ∀ j, 44 + 6 * k ≤ j → j < 50 + 6 * k → a' j = a j) (h : yRow a Wd R nr k t) : yRow a' Wd R nr k t := by
  unfold yRow
  rw [e (44 + 6 * k) (by omega) (by omega), e (44 + 6 * k + 1) (by omega) (by omega), e (44 + 6 * k + 2) (by omega) (by omega)]
  exact h
theorem yTst_same {a' : Nat → Int32} {k : Nat} {w : Int32 × Int32 × Int32} (e : ∀ j, 44 + 6 * k ≤ j → j < 50 + 6 * k → a' j = a j) (h : yTst a Wd R k w) : yTst a' Wd R k w := by
  unfold yTst
  rw [e (44 + 6 * k) (by omega) (by omega), e (44 + 6 * k + 1) (by omega) (by omega), e (44 + 6 * k + 2) (by omega) (by omega), e (44 + 6 * k + 5) (by omega) (by omega)]
  exact h
theorem yEncs_same {α : Type} {en en' : α → Nat → Nat → Prop} {N : Nat} (hen : ∀ t k e, en t k e → k < e) (H : ∀ t k e, en t k e → e ≤ N → en' t k e) : ∀ (cs : List α) (k e : Nat), yEncs en cs k e → e ≤ N → yEncs en' cs k e
  | [], _, _, h, _ => h
  | t :: ts, k, e, h, hle => by
    obtain ⟨k1, h1, h2⟩ := h
    have a2 := yEncs_le hen ts k1 e h2
    exact ⟨k1, H t k k1 h1 (by omega), yEncs_same hen H ts k1 e h2 hle⟩
theorem yEnc_same {a' : Nat → Int32} {N : Nat} (e : ∀ j, 44 ≤ j → j < 44 + 6 * N → a' j = a j) : ∀ (n : Nat) (t : yT n) (k e : Nat), yEnc a Wd R nr n t k e → e ≤ N → yEnc a' Wd R nr n t k e
  | 0, t, k, _, h, hle => ⟨h.1, yRow_same (fun j h1 h2 => e j (by omega) (by have := h.1; omega)) h.2⟩
  | n + 1, .inl t, k, _, h, hle => ⟨h.1, yRow_same (fun j h1 h2 => e j (by omega) (by have := h.1; omega)) h.2⟩
  | n + 1, .inr (.inl w), k, _, h, hle => by
    obtain ⟨c, he, r1, r2, r3, r4, r5, r6, r7⟩ := h
    have hkc := yEncs_le (yEnc_lt n) w.2 (k + 1) c r5
    refine ⟨c, he, ?_, ?_, r3, r4, yEncs_same (yEnc_lt n) (yEnc_same e n) w.2 (k + 1) c r5 (by omega), ?_, ?_⟩
    · rw [e _ (by omega) (by omega)]; exact r1
    · rw [e _ (by omega) (by omega)]; exact r2
    · rw [e _ (by omega) (by omega)]; exact r6
    · rw [e _ (by omega) (by omega)]; exact r7
  | n + 1, .inr (.inr w), k, _, h, hle => by
    obtain ⟨c, he, r1, r2, r5, r6, r7⟩ := h
    have hkc := yEncs_le (yEnc_lt n) w.2 (k + 1) c r5
    refine ⟨c, he, yTst_same (fun j h1 h2 => e j (by omega) (by omega)) r1, ?_, yEncs_same (yEnc_lt n) (yEnc_same e n) w.2 (k + 1) c r5 (by omega), ?_, ?_⟩
    · rw [e _ (by omega) (by omega)]; exact r2
    · rw [e _ (by omega) (by omega)]; exact r6
    · rw [e _ (by omega) (by omega)]; exact r7
theorem cp_out (s : Nat → Int32) : ∀ n, n ≤ 44 → (∀ j, ¬ (2050 ≤ j ∧ j < 2050 + n) → zf mf_mean_B61 s n j = s j) ∧ ∀ k, k < n → zf mf_mean_B61 s n (2050 + k) = s k := by
  intro n
  induction n with
  | zero => exact fun _ => ⟨fun _ _ => rfl, fun k hk => absurd hk (Nat.not_lt_zero _)⟩
  | succ n ih =>
    intro hn
    obtain ⟨i1, i2⟩ := ih (by omega)
    show (∀ j, ¬ (2050 ≤ j ∧ j < 2050 + (n + 1)) → upd (zf mf_mean_B61 s n) (2050 + n) (zf mf_mean_B61 s n n) j = s j) ∧ ∀ k, k < n + 1 → upd (zf mf_mean_B61 s n) (2050 + n) (zf mf_mean_B61 s n n) (2050 + k) = s k
    refine ⟨fun j hj => (pk_un (by omega)).trans (i1 j (by omega)), fun k hk => ?_⟩
    by_cases q : k = n
    · subst q; rw [pk_us]; exact i1 k (by omega)
    · rw [pk_un (by omega)]; exact i2 k (by omega)
theorem cp_in (s : Nat → Int32) : ∀ n, n ≤ 44 → (∀ j, n ≤ j → zf mf_mean_B124 s n j = s j) ∧ ∀ k, k < n → zf mf_mean_B124 s n k = s (2050 + k) := by
  intro n
  induction n with
  | zero => exact fun _ => ⟨fun _ _ => rfl, fun k hk => absurd hk (Nat.not_lt_zero _)⟩
  | succ n ih =>
    intro hn
    obtain ⟨i1, i2⟩ := ih (by omega)
    show (∀ j, n + 1 ≤ j → upd (zf mf_mean_B124 s n) n (zf mf_mean_B124 s n (2050 + n)) j = s j) ∧ ∀ k, k < n + 1 → upd (zf mf_mean_B124 s n) n (zf mf_mean_B124 s n (2050 + n)) k = s (2050 + k)
    refine ⟨fun j hj => (pk_un (by omega)).trans (i1 j (by omega)), fun k hk => ?_⟩
    by_cases q : k = n
    · subst q; rw [pk_us]; exact i1 _ (by omega)
    · rw [pk_un q]; exact i2 k (by omega)
theorem rr_meanL {cs : List (yT 3)} {seed mn : Int32} {vb vs ve : Nat → Int32} {d0 r0 : Int32} {a1 : Nat → Int32} (hE : lvE a Wd R nr nc nn thouses talways tnever tbeside tleast tmost) (hen : yEncs (yEnc a Wd R nr 3) cs 0 nn) (h : pH a Wd R nr ulit umayor unight uoil uborn ustays useen thouses talways tnever tbeside) (hL : pL thouses talways tnever ulit) (hs : ∀ k, k < 10 → ¬ useen k < 0 ∧ useen k ≤ 3) (hlo : mLP lo) (h1 : ∀ j, ¬ (2050 ≤ j ∧ j < 2094) → a1 j = a j) (h2 : ∀ k, k < 44 → a1 (2050 + k) = a k) : ∀ n, (zf (yMean (fun bo st => (Wd, R, nr, nc, thouses, talways, tnever, tring, bo, st, tbeside, tleast, tmost, trnames)) cs seed ulit umayor unight uoil uborn ustays useen) (0, vb, vs, ve) n).1 = (zf (mf_mean_B94 Wd R nr nc nn seed mn) (0, d0, r0, a1, b, lo, ra) n).1 ∧ (∀ j, ¬ (2050 ≤ j ∧ j < 2094) → (zf (mf_mean_B94 Wd R nr nc nn seed mn) (0, d0, r0, a1, b, lo, ra) n).2.2.2.1 j = a j) ∧ (∀ k, k < 44 → (zf (mf_mean_B94 Wd R nr nc nn seed mn) (0, d0, r0, a1, b, lo, ra) n).2.2.2.1 (2050 + k) = a k) ∧ mLP (zf (mf_mean_B94 Wd R nr nc nn seed mn) (0, d0, r0, a1, b, lo, ra) n).2.2.2.2.2.1 := by
  intro n
  induction n with
  | zero => exact ⟨rfl, h1, h2, hlo⟩
  | succ n ih =>
    obtain ⟨i1, i2, i3, i4⟩ := ih
    show (yMean (fun bo st => (Wd, R, nr, nc, thouses, talways, tnever, tring, bo, st, tbeside, tleast, tmost, trnames)) cs seed ulit umayor unight uoil uborn ustays useen n (zf (yMean (fun bo st => (Wd, R, nr, nc, thouses, talways, tnever, tring, bo, st, tbeside, tleast, tmost, trnames)) cs seed ulit umayor unight uoil uborn ustays useen) (0, vb, vs, ve) n)).1 = (mf_mean_B94 Wd R nr nc nn seed mn n (zf (mf_mean_B94 Wd R nr nc nn seed mn) (0, d0, r0, a1, b, lo, ra) n)).1 ∧ (∀ j, ¬ (2050 ≤ j ∧ j < 2094) → (mf_mean_B94 Wd R nr nc nn seed mn n (zf (mf_mean_B94 Wd R nr nc nn seed mn) (0, d0, r0, a1, b, lo, ra) n)).2.2.2.1 j = a j) ∧ (∀ k, k < 44 → (mf_mean_B94 Wd R nr nc nn seed mn n (zf (mf_mean_B94 Wd R nr nc nn seed mn) (0, d0, r0, a1, b, lo, ra) n)).2.2.2.1 (2050 + k) = a k) ∧ mLP (mf_mean_B94 Wd R nr nc nn seed mn n (zf (mf_mean_B94 Wd R nr nc nn seed mn) (0, d0, r0, a1, b, lo, ra) n)).2.2.2.2.2.1
    generalize zf (yMean (fun bo st => (Wd, R, nr, nc, thouses, talways, tnever, tring, bo, st, tbeside, tleast, tmost, trnames)) cs seed ulit umayor unight uoil uborn ustays useen) (0, vb, vs, ve) n = x at i1 ⊢
    generalize zf (mf_mean_B94 Wd R nr nc nn seed mn) (0, d0, r0, a1, b, lo, ra) n = s at i1 i2 i3 i4 ⊢
    obtain ⟨x1, x2, x3, x4⟩ := x
    obtain ⟨s1, s2, s3, s4, s5, s6, s7⟩ := s
    dsimp only at i1 i2 i3 i4
    have e44 : ∀ j, j < 404 → s4 j = a j := fun j hj => i2 j (by omega)
    have h' : pH s4 Wd R nr ulit umayor unight uoil (va_cpy uborn x2 0 0 4) (va_cpy ustays x3 0 0 4) (va_cpy useen x4 0 0 10) thouses talways tnever tbeside := pH_same h (fun j hj => e44 j (by omega)) (fun k hk => sb_cpy0 hk) (fun k hk => sb_cpy0 hk) (fun k hk => sb_cpy0 hk)
    have hs' : ∀ k, k < 10 → ¬ (va_cpy useen x4 0 0 10) k < 0 ∧ (va_cpy useen x4 0 0 10) k ≤ 3 := fun k hk => by rw [sb_cpy0 hk]; exact hs k hk
    have hE' : lvE s4 Wd R nr nc nn thouses talways tnever tbeside tleast tmost := by
      obtain ⟨y1, y2, y3, y4, y5, ⟨y6, y7⟩, y8⟩ := hE
      refine ⟨mYR_eq y1 e44, y2, y3, y4, y5, ⟨y6, fun k hk => ?_⟩, y8⟩
      rw [e44 _ (by omega), e44 _ (by omega)]
      exact y7 k hk
    have hen' : yEncs (yEnc s4 Wd R nr 3) cs 0 nn := yEncs_same (yEnc_lt 3) (yEnc_same (N := nn) (fun j j1 j2 => e44 j (by have := hE.1.2.2.1; omega)) 3) cs 0 nn hen (Nat.le_refl _)
    obtain ⟨rs', q0, q1, q2⟩ := r_lives (seed := seed + nI n) (tring := tring) (trnames := trnames) (b := s5) (ra := s7) hE' hen' h' hL hs' i4
    unfold yMean mf_mean_B94 zlet
    dsimp only
    generalize mf_lives s4 s5 s6 s7 Wd R nr nc nn (seed + nI n) = t at q0 q1 q2 ⊢
    have qf := q0.2.2.2.2.2.2
    have q3 := q0.2.2.2.1.2.1
    obtain ⟨c1, c2⟩ := cp_in t.2.2.1 44 (Nat.le_refl _)
    refine ⟨?_, fun j hj => ?_, fun k hk => ?_, q1⟩
    · rw [i1, q3]
    · show zf mf_mean_B124 t.2.2.1 44 j = a j
      by_cases c : j < 44
      · rw [c2 j c, qf (2050 + j) (by omega) (by omega) (by omega) (by omega) (by omega)]
        exact i3 j c
      · rw [c1 j (by omega), qf j (by omega) (by omega) (by omega) (by omega) (by omega)]
        exact i2 j hj
    · show zf mf_mean_B124 t.2.2.1 44 (2050 + k) = a k
      rw [c1 (2050 + k) (by omega), qf (2050 + k) (by omega) (by omega) (by omega) (by omega) (by omega)]
      exact i3 k hk
theorem rr_mean {cs : List (yT 3)} {seed : Int32} {mn : Nat} {tp bo : Int64} {vb vs ve : Nat → Int32} {d0 r0 : Int32} (hE : lvE a Wd R nr nc nn thouses talways tnever tbeside tleast tmost) (hen : yEncs (yEnc a Wd R nr 3) cs 0 nn) (h : pH a Wd R nr ulit umayor unight uoil uborn ustays useen thouses talways tnever tbeside) (hL : pL thouses talways tnever ulit) (hs : ∀ k, k < 10 → ¬ useen k < 0 ∧ useen k ≤ 3) (hlo : mLP lo) (hmn : mn ≤ 20) (hin1 : mf_isFrom seed.toInt64 0 9999 = true) (hin2 : mf_isFrom (nI mn).toInt64 1 20 = true) (hin3 : (seed + nI mn) - 1 ≤ 9999) {N : Nat} (hN : N = (zf (yMean (fun bo st => (Wd, R, nr, nc, thouses, talways, tnever, tring, bo, st, tbeside, tleast, tmost, trnames)) cs seed ulit umayor unight uoil uborn ustays useen) (0, vb, vs, ve) mn).1) : (mf_mean tp bo d0 r0 a b lo ra Wd R nr nc nn seed (nI mn)).1 = true ∧ (mf_mean tp bo d0 r0 a b lo ra Wd R nr nc nn seed (nI mn)).2.1 = 0 ∧ (mf_mean tp bo d0 r0 a b lo ra Wd R nr nc nn seed (nI mn)).2.2.1 = (xf_fraction N mn).2.1 ∧ (mf_mean tp bo d0 r0 a b lo ra Wd R nr nc nn seed (nI mn)).2.2.2.1 = (xf_fraction N mn).2.2 ∧ ∀ j, j < 2050 → (mf_mean tp bo d0 r0 a b lo ra Wd R nr nc nn seed (nI mn)).2.2.2.2.2.2.1 j = a j := by
  have h11 : ¬ a 11 = -1 := by
    rw [hE.1.2.1]
    intro q
    exact nI_pos (n := nn) (by have := hE.1.2.2.1; omega) (by rw [q]; decide)
  obtain ⟨c1, c2⟩ := cp_out a 44 (Nat.le_refl _)
  obtain ⟨k1, k2, k3, k4⟩ := rr_meanL (seed := seed) (mn := nI mn) (vb := vb) (vs := vs) (ve := ve) (d0 := d0) (r0 := r0) (a1 := zf mf_mean_B61 a 44) (b := b) (ra := ra) (tring := tring) (trnames := trnames) hE hen h hL hs hlo (fun j hj => c1 j (by omega)) c2 mn
  have e : mf_mean tp bo d0 r0 a b lo ra Wd R nr nc nn seed (nI mn) = ((mf_tellsBy N mn).1, (mf_tellsBy N mn).2.1, (mf_tellsBy N mn).2.2.1, (mf_tellsBy N mn).2.2.2, (zf (mf_mean_B94 Wd R nr nc nn seed (nI mn)) (0, d0, r0, zf mf_mean_B61 a 44, b, lo, ra) mn).2) := by
    unfold mf_mean
    rw [if_pos hin1, if_pos hin2, if_pos hin3, if_neg h11]
    unfold zlet mf_mean_L94 mf_mean_L61
    dsimp only
    rw [nI_clamp (by omega), ← k1, ← hN]
  rw [e]
  exact ⟨rfl, rfl, rfl, rfl, fun j hj => k2 j (by omega)⟩
end R23
