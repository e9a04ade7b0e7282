/-! r7: the plain laws of lamp, citizen, unlike, brightest, oil, seen, pictures, again, far -/
theorem r_cnt {x : Int32} {N : Nat} (hN : N < 2 ^ 31) : (if x < 0 then false else if nI N ≤ x then false else true) = xf_isIn x.toInt64 0 (((nI N) - 1).toInt64) := by
  rcases Nat.eq_zero_or_pos N with h0 | h0
  · subst h0
    have e : ((nI 0) - 1).toInt64 = -1 := by decide
    unfold xf_isIn
    rw [e]
    have hx : (if x.toInt64 < 0 then false else if (-1 : Int64) < x.toInt64 then false else true) = false := by
      by_cases c : x.toInt64 < 0
      · rw [if_pos c]
      · rw [if_neg c, if_pos (Int64.lt_of_lt_of_le (show (-1 : Int64) < 0 by decide) (Int64.not_lt.mp c))]
    rw [hx]
    by_cases c : x < 0
    · rw [if_pos c]
    · rw [if_neg c, if_pos (show nI 0 ≤ x from Int32.not_lt.mp c)]
  · have e1 := r_in1 (x := x) (N := N) h0 hN
    by_cases c1 : x < 0
    · rw [if_pos c1]; exact (Bool.eq_false_iff.mpr (fun q => (e1.mp q).1 c1)).symm
    · rw [if_neg c1]
      by_cases c2 : nI N ≤ x
      · rw [if_pos c2]; exact (Bool.eq_false_iff.mpr (fun q => (e1.mp q).2 c2)).symm
      · rw [if_neg c2]; exact (e1.mpr ⟨c1, c2⟩).symm
theorem r_ruleA {nr : Nat} {ru : Int32} (h4 : nr ≤ 4) : mf_isRule nr ru = xf_isRule nr ru := r_cnt (by omega)
theorem r_citA {nc : Nat} {ci : Int32} (h6 : nc ≤ 6) : mf_isCitizen nc ci = xf_isCitizen nc ci := r_cnt (by omega)
theorem r_isRule_t {nr : Nat} {ru : Int32} (h4 : nr ≤ 4) (h : xf_isRule nr ru = true) : ¬ ru < 0 ∧ ru.toNatClampNeg < nr := by
  rw [← r_ruleA h4] at h
  unfold mf_isRule at h
  by_cases c1 : ru < 0
  · rw [if_pos c1] at h; cases h
  · rw [if_neg c1] at h
    by_cases c2 : nI nr ≤ ru
    · rw [if_pos c2] at h; cases h
    · exact ⟨c1, z_nge nr (by omega) c1 c2⟩
theorem r_isCit_t {nc : Nat} {ci : Int32} (h6 : nc ≤ 6) (h : xf_isCitizen nc ci = true) : ¬ ci < 0 ∧ ci.toNatClampNeg < nc := by
  rw [← r_citA h6] at h
  unfold mf_isCitizen at h
  by_cases c1 : ci < 0
  · rw [if_pos c1] at h; cases h
  · rw [if_neg c1] at h
    by_cases c2 : nI nc ≤ ci
    · rw [if_pos c2] at h; cases h
    · exact ⟨c1, z_nge nc (by omega) c1 c2⟩
theorem zw_map {σ ρ ρ' : Type} {f : σ → σ ⊕ ρ} {g : σ → σ ⊕ ρ'} {d : ρ} {d' : ρ'} (φ : ρ → ρ') (hd : φ d = d') (h : ∀ s, g s = (f s).map id φ) : ∀ n s, zw g d' n s = φ (zw f d n s) := by
  intro n
  induction n with
  | zero => exact fun _ => hd.symm
  | succ n ih =>
    intro s
    have hs := h s
    cases e : f s with
    | inl s' => rw [e] at hs; rw [zw_l (show g s = .inl s' from hs), zw_l e]; exact ih s'
    | inr r => rw [e] at hs; rw [zw_r (show g s = .inr (φ r) from hs), zw_r e]
theorem zw_congr {σ ρ : Type} {f g : σ → σ ⊕ ρ} {d : ρ} (h : ∀ s, g s = f s) : ∀ n s, zw g d n s = zw f d n s := fun n s => by
  have e : g = f := funext h
  rw [e]
section R7
variable {a b th : Nat → Int32} {Wd R nr nc : Nat} {ulit umayor unight uoil : Int32} {uborn ustays useen : Nat → Int32} {thouses talways tnever : Int32} {tbeside tleast tmost : Nat → Int32}
theorem rr_lamp {x y what : Int32} (h : pH a Wd R nr ulit umayor unight uoil uborn ustays useen thouses talways tnever tbeside) (hW0 : 1 ≤ Wd) (hW5 : Wd ≤ 5) (hR0 : 1 ≤ R) (hR6 : R ≤ 6) : xf_lamp ulit Wd R thouses talways tnever tbeside x y what = mf_lamp a Wd R x y what := by
  have e1 : xf_isIn what.toInt64 0 3 = true ↔ (¬ what < 0 ∧ ¬ 3 < what) := r_in2 (x := what) (N := 3) (by decide)
  unfold xf_lamp mf_lamp
  rw [r_wrongHouse h.1 hW0 hW5 hR0 hR6]
  by_cases d : what < 0
  · rw [if_pos d, if_neg (fun q => (e1.mp q).1 d)]
  · rw [if_neg d]
    by_cases e : what ≤ 3
    · rw [if_pos e, if_pos (e1.mpr ⟨d, Int32.not_lt.mpr e⟩)]
      by_cases c : xf_whyNoHouse Wd R thouses x y ≤ 0
      · rw [if_pos c, if_pos c]
        have hpl : xf_isPlace Wd R x y = true := by
          by_cases q : xf_isPlace Wd R x y = true
          · exact q
          · unfold xf_whyNoHouse at c
            rw [if_neg q] at c
            exact absurd c (by decide)
        have hw0 : xf_whyNoHouse Wd R thouses x y = 0 := by
          unfold xf_whyNoHouse at c ⊢
          rw [if_pos hpl] at c ⊢
          by_cases q : tf_isHouse thouses (nI Wd * y + x) = true
          · rw [if_pos q]
          · rw [if_neg q] at c; exact absurd c (by decide)
        obtain ⟨⟨hx0, hx1⟩, hy0, hy1⟩ := xPlace_t hW0 hW5 hR0 hR6 hpl
        have hb := h.1.2.2 _ (xCell_lt hx1 hy1)
        rw [hw0, hb, h.2.1, h.1.2.1]
        unfold mf_bitOf
        by_cases f : what = 0
        · rw [if_pos f, if_pos f]
          by_cases g : ulit &&& ((1 : Int32) <<< ((nI Wd * y + x) &&& 31)) = 0
          · rw [if_pos g, (i_tst _ _).mpr g]
          · rw [if_neg g, (i_tst1 _ _).mpr g]
        · rw [if_neg f, if_neg f]
          by_cases g : what = 1
          · rw [if_pos g, if_pos g]
          · rw [if_neg g, if_neg g]
            by_cases g2 : what = 2
            · rw [if_pos g2, if_pos g2]
            · rw [if_neg g2, if_neg g2]
              by_cases g3 : (talways ||| tnever) &&& ((1 : Int32) <<< ((nI Wd * y + x) &&& 31)) = 0
              · rw [if_pos g3, (i_tst _ _).mpr g3]
              · rw [if_neg g3, (i_tst1 _ _).mpr g3]
      · rw [if_neg c, if_neg c]
    · rw [if_neg e, if_neg (fun q => (e1.mp q).2 (Int32.not_le.mp e))]
/-- the citizens' numbers -/
def pC (a : Nat → Int32) (nc : Nat) (tleast tmost : Nat → Int32) : Prop := nc ≤ 6 ∧ ∀ k, k < nc → a (20 + 2 * k) = tleast k ∧ a (20 + 2 * k + 1) = tmost k
theorem rr_citizen {ci what : Int32} (h : pC a nc tleast tmost) : xf_citizen nc tleast tmost ci what = mf_citizen a nc ci what := by
  have e1 : xf_isIn what.toInt64 0 1 = true ↔ (¬ what < 0 ∧ ¬ 1 < what) := r_in2 (x := what) (N := 1) (by decide)
  unfold xf_citizen mf_citizen
  rw [r_citA h.1]
  by_cases c : xf_isCitizen nc ci = true
  · rw [if_pos c, if_pos c]
    obtain ⟨u1, u2⟩ := h.2 ci.toNatClampNeg (r_isCit_t h.1 c).2
    by_cases d : what < 0
    · rw [if_pos d, if_neg (fun q => (e1.mp q).1 d)]
    · rw [if_neg d]
      by_cases e : 1 < what
      · rw [if_pos e, if_neg (fun q => (e1.mp q).2 e)]
      · rw [if_neg e, if_pos (e1.mpr ⟨d, e⟩)]
        by_cases f : what = 0
        · rw [if_pos f, f, show ((0 : Int32)).toNatClampNeg = 0 from rfl, Nat.add_zero, u1]
        · rw [if_neg f, i_one d e f, u2]
  · rw [if_neg c, if_neg c]
theorem r_pict (pic : Int64) : xf_isPicture pic = mf_isFrom pic 0 1073741823 := by
  unfold xf_isPicture
  rw [r_in]
theorem rr_unlike {pic : Int64} (h : pH a Wd R nr ulit umayor unight uoil uborn ustays useen thouses talways tnever tbeside) : xf_unlike ulit Wd R pic = mf_unlike a Wd R pic := by
  unfold xf_unlike mf_unlike xf_unlikeTo mf_whole
  rw [r_pict, h.2.1]
theorem rr_seen {st nb : Int32} (h : pH a Wd R nr ulit umayor unight uoil uborn ustays useen thouses talways tnever tbeside) : xf_seen useen st nb = mf_seen a st nb := by
  have hs := h.2.2.2.2.2.2.2.2.2
  have e1 : xf_isIn st.toInt64 0 1 = true ↔ (¬ st < 0 ∧ ¬ 1 < st) := r_in2 (x := st) (N := 1) (by decide)
  have e2 : xf_isIn nb.toInt64 0 4 = true ↔ (¬ nb < 0 ∧ ¬ 4 < nb) := r_in2 (x := nb) (N := 4) (by decide)
  unfold xf_seen mf_seen
  rw [r_in, r_in]
  by_cases c : xf_isIn st.toInt64 0 1 = true
  · rw [if_pos c, if_pos c]
    by_cases d : xf_isIn nb.toInt64 0 4 = true
    · rw [if_pos d, if_pos d]
      have h1 := z_ngt 1 (by decide) (e1.mp c).1 (show ¬ nI 1 < st from (e1.mp c).2)
      have h2 := z_ngt 4 (by decide) (e2.mp d).1 (show ¬ nI 4 < nb from (e2.mp d).2)
      rw [← hs _ (show 5 * st.toNatClampNeg + nb.toNatClampNeg < 10 by omega), Nat.add_assoc]
    · rw [if_neg d, if_neg d]
  · rw [if_neg c, if_neg c]
theorem rr_pictures (h : pH a Wd R nr ulit umayor unight uoil uborn ustays useen thouses talways tnever tbeside) : xf_pictures thouses talways tnever = mf_pictures a := by
  unfold xf_pictures mf_pictures
  rw [r_free h.1]
theorem rr_brightest {n : Int32} (h : pH a Wd R nr ulit umayor unight uoil uborn ustays useen thouses talways tnever tbeside) : (xf_brightest ulit umayor uborn ustays Wd R thouses talways tnever tbeside n).1 = (mf_brightest a b Wd R n).1 ∧ (xf_brightest ulit umayor uborn ustays Wd R thouses talways tnever tbeside n).2 = (mf_brightest a b Wd R n).2.1 := by
  unfold xf_brightest mf_brightest zlet
  rw [r_in]
  by_cases c : xf_isIn n.toInt64 0 999 = true
  · rw [if_pos c, if_pos c]
    have e : xf_brightest_L46 umayor uborn ustays Wd R thouses talways tnever tbeside n (nI (zpc ulit), ulit) = mf_brightest_L37 a Wd R n (mf_laysNear a b Wd R) (nI (zpc (a 3)), a 3) := by
      rw [h.2.1]
      show zf _ _ _ = zf _ _ _
      exact zf_congr _ (fun k _ s => by unfold xf_brightest_B46 mf_brightest_B37; rw [r_next h])
    rw [e]
    exact ⟨rfl, rfl⟩
  · rw [if_neg c, if_neg c]; exact ⟨rfl, rfl⟩
theorem i_sub0 {x y : Int32} (hx : 0 ≤ x) (hy : 0 ≤ y) : (0 ≤ x - y) ↔ ¬ x < y := by
  obtain ⟨j, hj, rfl⟩ := nI_of (Int32.not_lt.mpr hx)
  obtain ⟨k, hk, rfl⟩ := nI_of (Int32.not_lt.mpr hy)
  rw [nI_ltI hj hk, Int32.le_iff_toInt_le, Int32.toInt_sub, nI_toInt hj, nI_toInt hk]
  have e : ((j : Int) - k).bmod (2 ^ 32) = (j : Int) - k := Int.bmod_eq_of_le (by omega) (by omega)
  rw [e, show (0 : Int32).toInt = 0 from rfl]
  omega
theorem rr_oil {m : Int32} (h : pH a Wd R nr ulit umayor unight uoil uborn ustays useen thouses talways tnever tbeside) : (xf_oil ulit umayor uborn ustays Wd R thouses talways tnever tbeside m).1 = (mf_oil a b Wd R m).1 ∧ (xf_oil ulit umayor uborn ustays Wd R thouses talways tnever tbeside m).2 = (mf_oil a b Wd R m).2.1 := by
  unfold xf_oil mf_oil zlet
  rw [r_in]
  by_cases c : xf_isIn m.toInt64 0 9999 = true
  · rw [if_pos c, if_pos c]
    have e1 : xf_isIn m.toInt64 0 9999 = true ↔ (¬ m < 0 ∧ ¬ 9999 < m) := r_in2 (x := m) (N := 9999) (by decide)
    have hm0 : 0 ≤ m := Int32.not_lt.mp (e1.mp c).1
    have key : ∀ (n : Nat) (k : Nat) (left pic : Int32), 0 ≤ left → 999 - k < n → k ≤ 999 → zcase (zw (xf_oil_B43 umayor uborn ustays Wd R thouses talways tnever tbeside) (.inl (0, ulit, m)) n (k, pic, left)) (fun _ => ((999 : Int32), (0 : Int32))) (fun r => r) = (nI (zw (mf_oil_B34 a Wd R (mf_laysNear a b Wd R)) (0, m, a 3) n (k, left, pic)).1, 0) := by
      intro n
      induction n with
      | zero => intro k left pic _ h2; exact absurd h2 (Nat.not_lt_zero _)
      | succ n ih =>
        intro k left pic hl h2 hk
        by_cases d : 999 ≤ k
        · rw [zw_r (show xf_oil_B43 umayor uborn ustays Wd R thouses talways tnever tbeside (k, pic, left) = .inr (.inl (k, pic, left)) by unfold xf_oil_B43; rw [if_pos d]), zw_r (show mf_oil_B34 a Wd R (mf_laysNear a b Wd R) (k, left, pic) = .inr (k, left, pic) by unfold mf_oil_B34; rw [if_pos d])]
          have : k = 999 := by omega
          subst this
          rfl
        · have hz : (0 : Int32) ≤ nI (zpc pic) := Int32.not_lt.mp (nI_pos (Nat.lt_of_le_of_lt (zpc_le pic) (by decide)))
          by_cases f : left < nI (zpc pic)
          · rw [zw_r (show xf_oil_B43 umayor uborn ustays Wd R thouses talways tnever tbeside (k, pic, left) = .inr (.inr (nI k, 0)) by unfold xf_oil_B43; rw [if_neg d, if_neg (fun q => (i_sub0 hl hz).mp q f)]), zw_r (show mf_oil_B34 a Wd R (mf_laysNear a b Wd R) (k, left, pic) = .inr (k, left, pic) by unfold mf_oil_B34; rw [if_neg d, if_pos f])]
            rfl
          · rw [zw_l (show xf_oil_B43 umayor uborn ustays Wd R thouses talways tnever tbeside (k, pic, left) = .inl (k + 1, hf_next umayor uborn ustays Wd R thouses talways tnever tbeside pic, left - nI (zpc pic)) by unfold xf_oil_B43; rw [if_neg d, if_pos ((i_sub0 hl hz).mpr f)]), zw_l (show mf_oil_B34 a Wd R (mf_laysNear a b Wd R) (k, left, pic) = .inl (k + 1, left - nI (zpc pic), mf_becomes a (mf_laysNear a b Wd R) Wd R pic (a 10)) by unfold mf_oil_B34; rw [if_neg d, if_neg f]), r_next h]
            exact ih (k + 1) _ _ ((i_sub0 hl hz).mpr f) (by omega) (by omega)
    have kk := key ((999 - 0) + 1) 0 m ulit hm0 (by omega) (by omega)
    have e2 : mf_oil_L34 a Wd R (mf_laysNear a b Wd R) (0, m, a 3) = zw (mf_oil_B34 a Wd R (mf_laysNear a b Wd R)) (0, m, a 3) ((999 - 0) + 1) (0, m, ulit) := by rw [h.2.1]; rfl
    dsimp only
    rw [show xf_oil_L43 umayor uborn ustays Wd R thouses talways tnever tbeside (0, ulit, m) = zw (xf_oil_B43 umayor uborn ustays Wd R thouses talways tnever tbeside) (.inl (0, ulit, m)) ((999 - 0) + 1) (0, ulit, m) from rfl, kk, e2]
    exact ⟨rfl, rfl⟩
  · rw [if_neg c, if_neg c]; exact ⟨rfl, rfl⟩
/-- pictures till one comes again -/
theorem r_comesAgain {ld rd : Int32} (h : pH a Wd R nr ulit umayor unight uoil uborn ustays useen thouses talways tnever tbeside) : xf_comesAgain ld rd ulit umayor uborn ustays Wd R thouses talways tnever tbeside th = ((mf_comesAgain ld rd a b th Wd R).1, (mf_comesAgain ld rd a b th Wd R).2.1, (mf_comesAgain ld rd a b th Wd R).2.2.1, (mf_comesAgain ld rd a b th Wd R).2.2.2.2) := by
  have hN : ∀ pic, mf_becomes a (mf_laysNear a b Wd R) Wd R pic (a 10) = hf_next umayor uborn ustays Wd R thouses talways tnever tbeside pic := fun pic => r_next h
  have inner : ∀ s2 s4, xf_comesAgain_L45 umayor uborn ustays Wd R thouses talways tnever tbeside s2 s4 = Sum.map id (fun r => (r.1, r.2.1, r.2.2.1, r.2.2.2.2)) (mf_comesAgain_L52 a Wd R (mf_laysNear a b Wd R) s2 s4) := fun s2 s4 => by
    unfold xf_comesAgain_L45 mf_comesAgain_L52
    refine zw_map (f := mf_comesAgain_B52 a Wd R (mf_laysNear a b Wd R) s2) (g := xf_comesAgain_B45 umayor uborn ustays Wd R thouses talways tnever tbeside s2) (d := .inl s4) (d' := .inl s4) (Sum.map id (fun r : Bool × Int32 × Int32 × (Nat → Int32) × (Nat → Int32) => (r.1, r.2.1, r.2.2.1, r.2.2.2.2))) rfl (fun s => ?_) _ _
    unfold xf_comesAgain_B45 mf_comesAgain_B52
    rw [hN]
    by_cases c : s2.1 ≤ s
    · rw [if_pos c, if_pos c]; rfl
    · rw [if_neg c, if_neg c]
      by_cases d : (upd s2.2 s2.1 (hf_next umayor uborn ustays Wd R thouses talways tnever tbeside (s2.2 (s2.1 - 1)))) s = (upd s2.2 s2.1 (hf_next umayor uborn ustays Wd R thouses talways tnever tbeside (s2.2 (s2.1 - 1)))) s2.1
      · rw [if_pos d, if_pos d]; rfl
      · rw [if_neg d, if_neg d]; rfl
  have outer : ∀ s, xf_comesAgain_L15 umayor uborn ustays Wd R thouses talways tnever tbeside s = Sum.map id (fun r => (r.1, r.2.1, r.2.2.1, r.2.2.2.2)) (mf_comesAgain_L18 a Wd R (mf_laysNear a b Wd R) s) := fun s => by
    unfold xf_comesAgain_L15 mf_comesAgain_L18
    refine zw_map (f := mf_comesAgain_B18 a Wd R (mf_laysNear a b Wd R)) (g := xf_comesAgain_B15 umayor uborn ustays Wd R thouses talways tnever tbeside) (d := .inl s) (d' := .inl s) (Sum.map id (fun r : Bool × Int32 × Int32 × (Nat → Int32) × (Nat → Int32) => (r.1, r.2.1, r.2.2.1, r.2.2.2.2))) rfl (fun s => ?_) _ _
    unfold xf_comesAgain_B15 mf_comesAgain_B18
    rw [hN, inner]
    by_cases c : 2000 < s.1
    · rw [if_pos c, if_pos c]; rfl
    · rw [if_neg c, if_neg c]
      cases mf_comesAgain_L52 a Wd R (mf_laysNear a b Wd R) s 0 with
      | inl t => rfl
      | inr r => rfl
  unfold xf_comesAgain mf_comesAgain zlet
  dsimp only
  rw [outer, h.2.1]
  cases mf_comesAgain_L18 a Wd R (mf_laysNear a b Wd R) (1, upd th 0 ulit) with
  | inl t => rfl
  | inr r => rfl
theorem rr_again {ld rd what : Int32} (h : pH a Wd R nr ulit umayor unight uoil uborn ustays useen thouses talways tnever tbeside) : xf_again ld rd ulit umayor uborn ustays Wd R thouses talways tnever tbeside th what = ((mf_again ld rd a b th Wd R what).1, (mf_again ld rd a b th Wd R what).2.1, (mf_again ld rd a b th Wd R what).2.2.1, (mf_again ld rd a b th Wd R what).2.2.2.1, (mf_again ld rd a b th Wd R what).2.2.2.2.2) := by
  have e1 : xf_isIn what.toInt64 0 1 = true ↔ (¬ what < 0 ∧ ¬ 1 < what) := r_in2 (x := what) (N := 1) (by decide)
  unfold xf_again mf_again zlet
  rw [r_comesAgain (b := b) h]
  by_cases d : what < 0
  · rw [if_pos d, if_neg (fun q => (e1.mp q).1 d)]
  · rw [if_neg d]
    by_cases e : what ≤ 1
    · rw [if_pos e, if_pos (e1.mpr ⟨d, Int32.not_lt.mpr e⟩)]
      generalize mf_comesAgain ld rd a b th Wd R = t
      dsimp only
      by_cases f : t.1 = true
      · rw [if_pos f, if_pos f]
        by_cases g : what = 0
        · rw [if_pos g, if_pos g]
        · rw [if_neg g, if_neg g]
      · rw [if_neg f, if_neg f]
    · rw [if_neg e, if_neg (fun q => (e1.mp q).2 (Int32.not_le.mp e))]
theorem rr_far {ld rd n : Int32} (h : pH a Wd R nr ulit umayor unight uoil uborn ustays useen thouses talways tnever tbeside) : xf_far ld rd ulit umayor uborn ustays Wd R thouses talways tnever tbeside th n = ((mf_far ld rd a b th Wd R n).1, (mf_far ld rd a b th Wd R n).2.1, (mf_far ld rd a b th Wd R n).2.2.1, (mf_far ld rd a b th Wd R n).2.2.2.1, (mf_far ld rd a b th Wd R n).2.2.2.2.2) := by
  unfold xf_far mf_far zlet
  rw [r_comesAgain (b := b) h, r_in]
  by_cases c : xf_isIn n.toInt64 0 999999999 = true
  · rw [if_pos c, if_pos c]
    generalize mf_comesAgain ld rd a b th Wd R = t
    dsimp only
    by_cases f : t.1 = true
    · rw [if_pos f, if_pos f]
      by_cases g : t.2.1.toNatClampNeg ≤ n.toNatClampNeg
      · rw [if_pos g, if_pos g]
      · rw [if_neg g, if_neg g]
    · rw [if_neg f, if_neg f]
  · rw [if_neg c, if_neg c]
end R7
