/-! r42: what ties a slot of the model to a house of the system; a whole town read -/
section R42
/-- a town -/
def sTw (a : Nat → Int32) (nm : Nat → Int64) (Wd R nr nc : Nat) (hou alw nev : Int32) (ring : Bool) (be le mo : Nat → Int32) (rn cn : Nat → Int64) : Prop :=
  tOK Wd R nr nc ∧ (a 0 = nI Wd ∧ a 1 = nI R ∧ a 5 = nI nr ∧ a 6 = nI nc) ∧ a 9 = (if tf_joins Wd ring = true then 1 else 0) ∧ pT a Wd R hou alw nev be ∧ pC a nc le mo ∧ pLk nc le mo ∧ (alw &&& hou = alw ∧ hou &&& (alw ||| nev) = (alw ||| nev) ∧ ∀ i, i < 32 → bt hou i = true → i < Wd * R) ∧ ((∀ k, k < nr → pNm (rn k) (nm k)) ∧ ∀ k, k < nc → pNm (cn k) (nm (4 + k)))
/-- a hill -/
def sHl (a : Nat → Int32) (Wd R nr : Nat) (lit mayor night oil : Int32) (bo st se : Nat → Int32) (hou alw nev : Int32) (be : Nat → Int32) : Prop :=
  pH a Wd R nr lit mayor night oil bo st se hou alw nev be ∧ pL hou alw nev lit ∧ ∀ k, k < 10 → ¬ se k < 0 ∧ se k ≤ 3
/-- a year -/
def sYr (a : Nat → Int32) (Wd R nr nc : Nat) : Option (List (yT 3)) → Prop
  | none => a 11 = -1
  | some cs => ∃ nn, mYR a Wd R nr nc nn ∧ yEncs (yEnc a Wd R nr 3) cs 0 nn ∧ ∀ x ∈ cs, yWf nr 3 x
variable {tape text : Nat → Int32} {zs : Nat} {ra rb fr en : Nat} {sort num bk bp tk val fp fl : Int32} {at_ a : Nat → Int32} {names : Nat → Int64}
theorem rI_0 (h : ∀ k, 1640 ≤ k → k < 1645 → ¬ k = 1640 → a k = 0) (B : Nat) : rI a 0 0 0 0 B := by
  refine ⟨h 1642 (by omega) (by omega) (by omega), h 1643 (by omega) (by omega) (by omega), ?_, fun i hi => ?_⟩
  · rw [h 1644 (by omega) (by omega) (by omega)]; decide
  · rw [b_0]; exact ⟨rfl, fun _ => rfl⟩
theorem rI_facts {p ho al ne : Int32} {B : Nat} (h : rI a p ho al ne B) : p &&& (al ||| ne) = al ∧ p &&& ho = p ∧ al &&& ho = al ∧ ho &&& (al ||| ne) = (al ||| ne) ∧ ∀ i, i < 32 → bt ho i = true → i < B := by
  have key : ∀ P H A N : Bool, rBt P H A N = true → (P && (A || N)) = A ∧ (P && H) = P ∧ (A && H) = A ∧ (H && (A || N)) = (A || N) := by decide
  refine ⟨b_ext fun i hi => ?_, b_ext fun i hi => ?_, b_ext fun i hi => ?_, b_ext fun i hi => ?_, fun i hi hb => ?_⟩
  · rw [b_and, b_or]; exact (key _ _ _ _ (h.2.2.2 i hi).1).1
  · rw [b_and]; exact (key _ _ _ _ (h.2.2.2 i hi).1).2.1
  · rw [b_and]; exact (key _ _ _ _ (h.2.2.2 i hi).1).2.2.1
  · rw [b_and, b_or]; exact (key _ _ _ _ (h.2.2.2 i hi).1).2.2.2
  · apply Classical.byContradiction
    intro q
    rw [(h.2.2.2 i hi).2 (by omega)] at hb
    cases hb
/-- the new slot's numbers in their ranges -/
def mI4 (a : Nat → Int32) : Prop := mIn (a 1640) 5 ∧ mIn (a 1641) 6 ∧ mIn (a 1645) 4 ∧ mIn (a 1646) 6
/-- a whole town: both fail alike -/
def pTB (x : yP23) (m : Int32 × Int32 × Int32 × Nat × Int32 × Nat × Nat × Int32 × Int32 × Int32 × Int32 × Int32 × (Nat → Int32) × (Nat → Int64) × (Nat → Int32)) (at_ : Nat → Int32) (names : Nat → Int64) : Prop :=
  m.1 = -1 ∧ m.2.1 = 9 ∧ m.2.2.1 = 0 ∧ m.2.2.2.2.2.2.2.2.1 = x.2.2.2.2.2.2.1 ∧ m.2.2.2.2.2.2.2.2.2.1 = x.2.2.2.2.2.2.2.1 ∧ (∀ k, k < 1640 → m.2.2.2.2.2.2.2.2.2.2.2.2.1 k = at_ k) ∧ mI4 m.2.2.2.2.2.2.2.2.2.2.2.2.1 ∧ ∀ k, k < 40 → m.2.2.2.2.2.2.2.2.2.2.2.2.2.1 k = names k
/-- or both have read the same town -/
def pTG (x : yP23) (m : Int32 × Int32 × Int32 × Nat × Int32 × Nat × Nat × Int32 × Int32 × Int32 × Int32 × Int32 × (Nat → Int32) × (Nat → Int64) × (Nat → Int32)) (at_ : Nat → Int32) (names : Nat → Int64) : Prop :=
  (m.1 = nI (zpc x.2.2.2.2.2.2.2.2.2.2.1) ∧ m.2.1 = 0 ∧ m.2.2.1 = 0 ∧ m.2.2.2.2.2.2.2.2.1 = 0 ∧ m.2.2.2.2.2.2.2.2.2.1 = -1 ∧ (∀ k, 410 ≤ k → k < 1640 → m.2.2.2.2.2.2.2.2.2.2.2.2.1 k = at_ k) ∧ mI4 m.2.2.2.2.2.2.2.2.2.2.2.2.1 ∧ ∀ k, 10 ≤ k → k < 40 → m.2.2.2.2.2.2.2.2.2.2.2.2.2.1 k = names k) ∧ sTw m.2.2.2.2.2.2.2.2.2.2.2.2.1 m.2.2.2.2.2.2.2.2.2.2.2.2.2.1 x.2.2.2.2.2.2.2.2.1 x.2.2.2.2.2.2.2.2.2.1 x.2.2.2.2.2.2.2.2.2.2.2.2.2.1 x.2.2.2.2.2.2.2.2.2.2.2.2.2.2.1 x.2.2.2.2.2.2.2.2.2.2.1 x.2.2.2.2.2.2.2.2.2.2.2.1 x.2.2.2.2.2.2.2.2.2.2.2.2.1 x.2.2.2.2.2.2.2.2.2.2.2.2.2.2.2.1 x.2.2.2.2.2.2.2.2.2.2.2.2.2.2.2.2.1 x.2.2.2.2.2.2.2.2.2.2.2.2.2.2.2.2.2.1 x.2.2.2.2.2.2.2.2.2.2.2.2.2.2.2.2.2.2.1 x.2.2.2.2.2.2.2.2.2.2.2.2.2.2.2.2.2.2.2.1 x.2.2.2.2.2.2.2.2.2.2.2.2.2.2.2.2.2.2.2.2.1 ∧ m.2.2.2.2.2.2.2.2.2.2.2.2.1 11 = -1 ∧ (∀ bo st se : Nat → Int32, (∀ k, k < 4 → bo k = x.2.2.2.2.2.2.2.2.2.2.2.2.2.2.2.2.2.2.2.2.2.1 k ∧ st k = x.2.2.2.2.2.2.2.2.2.2.2.2.2.2.2.2.2.2.2.2.2.2 k) → (∀ k, k < 10 → se k = 0) → sHl m.2.2.2.2.2.2.2.2.2.2.2.2.1 x.2.2.2.2.2.2.2.2.1 x.2.2.2.2.2.2.2.2.2.1 x.2.2.2.2.2.2.2.2.2.2.2.2.2.1 x.2.2.2.2.2.1 (if x.2.2.2.2.2.2.2.2.2.2.2.2.2.1 = 0 then -1 else 0) 0 0 bo st se x.2.2.2.2.2.2.2.2.2.2.1 x.2.2.2.2.2.2.2.2.2.2.2.1 x.2.2.2.2.2.2.2.2.2.2.2.2.1 x.2.2.2.2.2.2.2.2.2.2.2.2.2.2.2.2.1)
set_option maxRecDepth 100000 in
/-- the end: what the copied slot holds -/
theorem town_end {x : yP23} {m : Int32 × Int32 × Int32 × Nat × Int32 × Nat × Nat × Int32 × Int32 × Int32 × Int32 × Int32 × (Nat → Int32) × (Nat → Int64) × (Nat → Int32)} {Wd R nr nc : Nat} {pic hou alw nev : Int32} {ring : Bool} {le mo bo st be : Nat → Int32} {rn cn : Nat → Int64} {b : Nat → Int32} {nb : Nat → Int64} {x2 x3 : Nat} {x4 x5 x7 x8 : Int32} {m4 m6 m7 : Nat} {m5 m8 m11 m12 : Int32} {m15 : Nat → Int32} (hW0 : 1 ≤ Wd) (hW : Wd ≤ 5) (hR0 : 1 ≤ R) (hR : R ≤ 6) (h4 : nr ≤ 4) (h6 : nc ≤ 6) (h40 : b 1640 = nI Wd) (h41 : b 1641 = nI R) (h45 : b 1645 = nI nr) (h46 : b 1646 = nI nc) (h49 : b 1649 = (if tf_joins Wd ring = true then 1 else 0)) (h50 : b 1650 = (if nr = 0 then -1 else 0)) (h51 : b 1651 = -1) (h47 : b 1647 = 0 ∧ b 1648 = 0) (hI : rI b pic hou alw nev (Wd * R)) (hbs : ∀ k, k < 4 → b (1652 + 2 * k) = bo k ∧ b (1652 + 2 * k + 1) = st k) (hls : ∀ k, k < nc → ∃ l h : Nat, l ≤ h ∧ h ≤ 30 ∧ le k = nI l ∧ mo k = nI h ∧ b (1660 + 2 * k) = nI l ∧ b (1660 + 2 * k + 1) = nI h) (hse : ∀ k, k < 10 → b (1672 + k) = 0) (hn1 : ∀ k, k < nr → pNm (rn k) (nb (40 + k))) (hn2 : ∀ k, k < nc → pNm (cn k) (nb (44 + k))) (hlo : ∀ k, k < 1640 → b k = at_ k) (hnl : ∀ k, k < 40 → nb k = names k) (hbe : be = tf_settles Wd R hou ring (fun _ => 0)) (hx : x = (true, x2, x3, x4, x5, pic, x7, x8, Wd, R, hou, alw, nev, nr, nc, ring, be, le, mo, rn, cn, bo, st)) (hm : m = (nI (zpc (mf_town_L100b b 2)), 0, 0, m4, m5, m6, m7, m8, 0, -1, m11, m12, mf_town_L100b b, mf_town_L131b nb, m15)) : pTG x m at_ names := by
  subst hx hm
  have e : ∀ k, k < 410 → mf_town_L100b b k = b (1640 + k) := fun k hk => by rw [cpA, if_pos hk]
  have e0 := e 0 (by omega)
  have e1 := e 1 (by omega)
  have e2 := e 2 (by omega)
  have e3 := e 3 (by omega)
  have e4 := e 4 (by omega)
  have e5 := e 5 (by omega)
  have e6 := e 6 (by omega)
  have e7 := e 7 (by omega)
  have e8 := e 8 (by omega)
  have e9 := e 9 (by omega)
  have e10 := e 10 (by omega)
  have e11 := e 11 (by omega)
  obtain ⟨i1, i2, i3, -⟩ := id hI
  obtain ⟨f1, f2, f3, f4, f5⟩ := rI_facts hI
  have hWR : Wd * R ≤ 5 * 6 := Nat.mul_le_mul hW hR
  have hT : pT (mf_town_L100b b) Wd R hou alw nev be := by
    refine ⟨e2.trans i1, e4.trans i3, fun k hk => ?_⟩
    rw [hbe]
    exact settles_near (a := mf_town_L100b b) (fun _ => 0) hW0 (by omega) (by omega) (e2.trans i1) (e9.trans h49) hk
  have hnm : ∀ k, k < 10 → mf_town_L131b nb k = nb (40 + k) := fun k hk => by rw [cpN, if_pos hk]
  refine ⟨⟨?_, rfl, rfl, rfl, rfl, fun k k1 k2 => ?_, ⟨?_, ?_, ?_, ?_⟩, fun k k1 k2 => ?_⟩, ⟨⟨hW0, hW, hR0, hR, h4, h6, by omega⟩, ⟨e0.trans h40, e1.trans h41, e5.trans h45, e6.trans h46⟩, e9.trans h49, hT, ⟨h6, fun k hk => ?_⟩, fun k hk => ?_, ⟨f3, f4, f5⟩, fun k hk => ?_, fun k hk => ?_⟩, e11.trans h51, fun b' s' u' hbs' hu' => ?_⟩
  · show nI (zpc (mf_town_L100b b 2)) = nI (zpc hou)
    rw [e2, show 1640 + 2 = 1642 from rfl, i1]
  · show mf_town_L100b b k = at_ k
    rw [cpA, if_neg (by omega)]; exact hlo k k2
  · show mIn (mf_town_L100b b 1640) 5
    rw [cpA, if_neg (by omega), h40]; exact mIn_nI hW (by omega)
  · show mIn (mf_town_L100b b 1641) 6
    rw [cpA, if_neg (by omega), h41]; exact mIn_nI hR (by omega)
  · show mIn (mf_town_L100b b 1645) 4
    rw [cpA, if_neg (by omega), h45]; exact mIn_nI h4 (by omega)
  · show mIn (mf_town_L100b b 1646) 6
    rw [cpA, if_neg (by omega), h46]; exact mIn_nI h6 (by omega)
  · show mf_town_L131b nb k = names k
    rw [cpN, if_neg (by omega)]; exact hnl k k2
  · obtain ⟨l, h, l1, l2, o1, o2, o3, o4⟩ := hls k hk
    dsimp only at hk ⊢
    rw [e _ (by omega), e _ (by omega), o1, o2, show 1640 + (20 + 2 * k) = 1660 + 2 * k by omega, show 1640 + (20 + 2 * k + 1) = 1660 + 2 * k + 1 by omega]
    exact ⟨o3, o4⟩
  · obtain ⟨l, h, l1, l2, o1, o2, o3, o4⟩ := hls k hk
    exact ⟨l, h, o1, o2, l1, l2⟩
  · dsimp only at hk ⊢
    rw [hnm k (by omega)]; exact hn1 k hk
  · dsimp only at hk ⊢
    rw [hnm (4 + k) (by omega), show 40 + (4 + k) = 44 + k by omega]; exact hn2 k hk
  · refine ⟨⟨hT, e3.trans i2, ?_, e7.trans h47.1, e8.trans h47.2, e10.trans h50, ?_, h4, fun k hk => ?_, fun k hk => ?_⟩, ⟨f1, f2⟩, fun k hk => ?_⟩
    · show mf_town_L100b b 3 &&& mf_town_L100b b 4 = alw
      rw [e3, e4, show 1640 + 3 = 1643 from rfl, show 1640 + 4 = 1644 from rfl, i2, i3]; exact f1
    · dsimp only
      by_cases q : nr = 0
      · rw [if_pos q]; exact Or.inl rfl
      · rw [if_neg q]
        refine Or.inr ⟨by decide, ?_⟩
        show (0 : Int32).toNatClampNeg < nr
        have : (0 : Int32).toNatClampNeg = 0 := by decide
        omega
    · obtain ⟨o1, o2⟩ := hbs k hk
      obtain ⟨o3, o4⟩ := hbs' k hk
      dsimp only
      rw [e _ (by omega), e _ (by omega), show 1640 + (12 + 2 * k) = 1652 + 2 * k by omega, show 1640 + (12 + 2 * k + 1) = 1652 + 2 * k + 1 by omega, o1, o2]
      exact ⟨o3.symm, o4.symm⟩
    · dsimp only
      rw [e _ (by omega), show 1640 + (32 + k) = 1672 + k by omega, hse k hk, hu' k hk]
    · rw [hu' k hk]; exact ⟨by decide, by decide⟩
theorem tk_m {R : Nat} {bR : Int32} (h : bR = nI R) (hR : R ≤ 6) : bR.toNatClampNeg = R := by rw [h, nI_clamp (by omega)]
set_option maxRecDepth 100000 in
/-- a town read on both sides -/
theorem town_run (h : pTx tape text zs) (h9 : zs ≤ 900) (hk : pTk tape zs (ra, rb, sort, num) (tk, fr, en, val)) (sn : Int32) (x : yP23) (hx : rT0 zs ra rb sort num tape bk bp = x) (m : Int32 × Int32 × Int32 × Nat × Int32 × Nat × Nat × Int32 × Int32 × Int32 × Int32 × Int32 × (Nat → Int32) × (Nat → Int64) × (Nat → Int32)) (hm : (fun t_4 : Bool × Int32 × Nat × Nat × Int32 × Int32 × Int32 × (Nat → Int32) => zlet (mf_town_L29 (true, 0, zs, tk, fr, en, val, -1, 0, sn, text) t_4 (t_4.1, t_4.2.1, t_4.2.2.1, t_4.2.2.2.1, t_4.2.2.2.2.1, t_4.2.2.2.2.2.1, t_4.2.2.2.2.2.2.1, t_4.2.2.2.2.2.2.2)) (fun t_5 => mTl names (true, 0, zs, tk, fr, en, val, -1, 0, sn, text) t_5)) (mf_first zs tk fr en val (-1) 0 (mf_plain at_ 1640) text) = m) : (x.1 = false ∧ pTB x m at_ names) ∨ (x.1 = true ∧ pTG x m at_ names) := by
  obtain ⟨a0, ha0⟩ : ∃ a0, mf_plain at_ 1640 = a0 := ⟨_, rfl⟩
  have plo : ∀ k, k < 1640 → a0 k = at_ k := fun k hq => by rw [← ha0, pl_at at_ (by omega) (by omega), if_neg (by omega)]
  have pz : ∀ k, 1640 ≤ k → k < 2050 → ¬ k = 1650 → ¬ k = 1651 → a0 k = 0 := fun k q1 q2 q3 q4 => by rw [← ha0, pl_at at_ q3 q4, if_pos ⟨q1, q2⟩]
  obtain ⟨p50, p51⟩ := pl_50 at_
  rw [ha0] at hm p50 p51
  clear ha0
  obtain ⟨T1, hT1⟩ : ∃ T1 : yT1, T1 = (true, 0, zs, tk, fr, en, val, -1, 0, sn, text) := ⟨_, rfl⟩
  have hz1 : T1.2.2.1 = zs := by rw [hT1]
  have ht1 : T1.2.1 = 0 := by rw [hT1]
  have hx1 : T1.2.2.2.2.2.2.2.2.2.2 = text := by rw [hT1]
  rw [← hT1] at hm
  have hfp := first_fp (zs := zs) (tk := tk) (fr := fr) (en := en) (val := val) (fp := -1) (fl := 0) (at_ := a0) (text := text)
  have z0 : mIn (0 : Int32) 4 := ⟨by decide, by decide⟩
  have z6 : mIn (0 : Int32) 6 := ⟨by decide, by decide⟩
  have z5 : mIn (0 : Int32) 5 := ⟨by decide, by decide⟩
  rcases head_eq (bk := bk) (bp := bp) (a := a0) (by rw [pz 1640 (by decide) (by decide) (by decide) (by decide)]; exact z5) h h9 hk with ⟨x', t, e1, e2, e3, e4, e5, e6, e7, e7m, e8⟩ | ⟨Wd, t_2, t_4, t, e1, e2, e3, hW0, hW5, e4, e5, e6, e7, e8, e9, e10⟩
  · rw [e1] at hx
    subst hx
    rw [e2] at hm
    obtain ⟨t1, t2, t3, t4, t5, t6, t7, t8⟩ := t
    dsimp only at e4 e5 e6 e7 e7m e8 hm
    subst e4
    have eL : mf_town_L29 T1 (false, t2, t3, t4, t5, t6, t7, t8) (false, t2, t3, t4, t5, t6, t7, t8) = (false, t2, t3, t4, t5, t6, t7, t8) := by
      unfold mf_town_L29
      exact zw_r (by unfold mf_town_B29; dsimp only; rw [if_neg (show ¬ false = true by decide)])
    rw [eL, zl (false, t2, t3, t4, t5, t6, t7, t8), mTl_bad T1 e7, ht1] at hm
    subst hm
    exact Or.inl ⟨e3, rfl, rfl, rfl, e5.symm, e6.symm, fun k hq => (e8 k (by omega) (by omega)).trans (plo k hq), ⟨e7m, by dsimp only; rw [e8 1641 (by decide) (by decide), pz 1641 (by decide) (by decide) (by decide) (by decide)]; exact z6, by dsimp only; rw [e8 1645 (by decide) (by decide), pz 1645 (by decide) (by decide) (by decide) (by decide)]; exact z0, by dsimp only; rw [e8 1646 (by decide) (by decide), pz 1646 (by decide) (by decide) (by decide) (by decide)]; exact z6⟩, fun _ _ => rfl⟩
  · rw [e1] at hx
    rw [e4] at hm hfp
    obtain ⟨t1, t2, t3, t4, t5, t6, t7, t8⟩ := t
    dsimp only at e5 e6 e7 e8 e9 e10 hm hfp
    subst e5 e7
    have q6 : t6 = -1 := (hfp rfl).2
    obtain ⟨r1, r2, r3, r4, r5, r6, r7⟩ := t_4
    dsimp only at e2 e6
    subst e2
    have hI0 : rI t8 0 0 0 0 (Wd * 0) := rI_0 (fun k k1 k2 k3 => (e10 k k3 (by omega)).trans (pz k k1 (by omega) (by omega) (by omega))) _
    have h41 : t8 1641 = nI 0 := (e10 1641 (by decide) (by decide)).trans (pz 1641 (by decide) (by decide) (by decide) (by decide))
    have R0 := rows_eq (at_ := t8) (nr := 0) (nc := 0) (tbeside := fun _ => 0) (tleast := fun _ => 0) (tmost := fun _ => 0) (tborn := fun _ => 0) (tstays := fun _ => 0) (trnames := fun _ => 0) (cnames := fun _ => 0) h h9 hW0 hW5 e8 T1 hz1 hx1 (true, t2, t3, t4, t5, t6, 0, t8) t_2 e3 (true, r2, r3, r4, r5, r6, r7) (.inl (r2, r3, r4, r5, 0, r6, r7, 0, 0, 0, 0)) (true, t2, t3, t4, t5, t6, 0, t8) ((zs - r2) + 1) ((1 + (zs - t4)) + 1) (r2, r3, r4, r5, 0, r6, r7, 0, 0, 0, 0) (true, t2, t3, t4, t5, t6, 0, t8) ⟨rfl, e6, rfl, Nat.zero_le _, h41, hI0, fun _ _ => rfl⟩ (Nat.lt_succ_self _) (Nat.lt_succ_self _)
    have F0 := rows_fp T1 (true, t2, t3, t4, t5, t6, 0, t8) (true, t2, t3, t4, t5, t6, 0, t8) (true, t2, t3, t4, t5, t6, 0, t8) ((1 + (zs - t4)) + 1) (-1) (fun _ => q6) (fun _ => q6)
    have eM : mf_town_L29 T1 (true, t2, t3, t4, t5, t6, 0, t8) (true, t2, t3, t4, t5, t6, 0, t8) = zw (mf_town_B29 T1 (true, t2, t3, t4, t5, t6, 0, t8)) (true, t2, t3, t4, t5, t6, 0, t8) ((1 + (zs - t4)) + 1) (true, t2, t3, t4, t5, t6, 0, t8) := by
      unfold mf_town_L29
      dsimp only
      rw [if_pos (show true = true from rfl), hz1]
    rw [eM] at hm
    have eX : xT0 zs tape t_2 (true, r2, r3, r4, r5, r6, r7) = (fun t_4 : Bool × Nat × Nat × Int32 × Int32 × Int32 × Int32 => zcase (rf_town_L51b zs tape 0 0 (fun _ => 0) (fun _ => 0) (fun _ => 0) (fun _ => 0) (fun _ => 0) (fun _ => 0) (fun _ => 0) t_2 t_4 (t_4.2.1, t_4.2.2.1, t_4.2.2.2.1, t_4.2.2.2.2.1, 0, t_4.2.2.2.2.2.1, t_4.2.2.2.2.2.2, 0, 0, 0, 0)) (fun t_5 => (if t_5.2.2.2.2.2.2.2.1 = 0 then zlet (rf_wrong t_5.1 t_5.2.2.1) (fun t_19 => (false, t_5.1, t_5.2.1, t_5.2.2.1, t_5.2.2.2.1, t_5.2.2.2.2.1, t_19.1, t_19.2, t_2.2.1.toNatClampNeg, t_5.2.2.2.2.2.2.2.1, t_5.2.2.2.2.2.2.2.2.1, t_5.2.2.2.2.2.2.2.2.2.1, t_5.2.2.2.2.2.2.2.2.2.2, 0, 0, rf_isWord t_2.2.2.1 t_2.2.2.2.1 t_2.2.2.2.2.1 tape 11, (fun _ => 0), (fun _ => 0), (fun _ => 0), (fun _ => 0), (fun _ => 0), (fun _ => 0), (fun _ => 0))) else zcase (rf_town_L80b zs tape (fun _ => 0) t_2 t_5 (t_5.1, t_5.2.1, t_5.2.2.1, t_5.2.2.2.1, t_5.2.2.2.2.2.1, t_5.2.2.2.2.2.2.1, 0, 0, (fun _ => 0), (fun _ => 0), (fun _ => 0), (fun _ => 0), (fun _ => 0), (fun _ => 0))) (fun t_9 => zlet (tf_settles t_2.2.1.toNatClampNeg t_5.2.2.2.2.2.2.2.1 t_5.2.2.2.2.2.2.2.2.1 (rf_isWord t_2.2.2.1 t_2.2.2.2.1 t_2.2.2.2.2.1 tape 11) (fun _ => 0)) (fun t_18 => (true, t_9.1, t_9.2.1, t_9.2.2.1, t_9.2.2.2.1, t_5.2.2.2.2.1, t_9.2.2.2.2.1, t_9.2.2.2.2.2.1, t_2.2.1.toNatClampNeg, t_5.2.2.2.2.2.2.2.1, t_5.2.2.2.2.2.2.2.2.1, t_5.2.2.2.2.2.2.2.2.2.1, t_5.2.2.2.2.2.2.2.2.2.2, t_9.2.2.2.2.2.2.1, t_9.2.2.2.2.2.2.2.1, rf_isWord t_2.2.2.1 t_2.2.2.2.1 t_2.2.2.2.2.1 tape 11, t_18, t_9.2.2.2.2.2.2.2.2.1, t_9.2.2.2.2.2.2.2.2.2.1, t_9.2.2.2.2.2.2.2.2.2.2.1, t_9.2.2.2.2.2.2.2.2.2.2.2.1, t_9.2.2.2.2.2.2.2.2.2.2.2.2.1, t_9.2.2.2.2.2.2.2.2.2.2.2.2.2))) (fun r => r))) (fun r => r)) (true, r2, r3, r4, r5, r6, r7) := by
      unfold xT0 xTl
      rw [if_pos (show (true, r2, r3, r4, r5, r6, r7).1 = true from rfl)]
    rw [eX] at hx
    clear eX
    dsimp only at hx
    have eL : rf_town_L51b zs tape 0 0 (fun _ => 0) (fun _ => 0) (fun _ => 0) (fun _ => 0) (fun _ => 0) (fun _ => 0) (fun _ => 0) t_2 (true, r2, r3, r4, r5, r6, r7) (r2, r3, r4, r5, 0, r6, r7, 0, 0, 0, 0) = zw (rf_town_B51b zs tape 0 0 (fun _ => 0) (fun _ => 0) (fun _ => 0) (fun _ => 0) (fun _ => 0) (fun _ => 0) (fun _ => 0) t_2 (true, r2, r3, r4, r5, r6, r7)) (.inl (r2, r3, r4, r5, 0, r6, r7, 0, 0, 0, 0)) ((zs - r2) + 1) (r2, r3, r4, r5, 0, r6, r7, 0, 0, 0, 0) := rfl
    rcases R0 with ⟨s', m', g1, g2, g3⟩ | ⟨r, m', g1, g2, g3, g4, g5, g6, g7, g8, g9⟩
    · rw [g2] at hm F0
      rw [zcase_l (eL.trans g1)] at hx
      obtain ⟨s1, s2, s3, s4, pic, s6, s7, R, hou, alw, nev⟩ := s'
      obtain ⟨m1, m2, m3, m4, m5, m6, m7, b⟩ := m'
      obtain ⟨g3a, g3b, g3c, g3d, g3e, g3f, g3g⟩ := g3
      dsimp only at g3a g3b g3c g3d g3e g3f g3g hx F0
      subst g3a g3c
      have q6' : m6 = -1 := F0 rfl
      have eR : (b 1641).toNatClampNeg = R := tk_m g3e g3d
      rw [zl (true, m2, m3, m4, m5, m6, 0, b)] at hm
      have blo : ∀ k, k < 1640 → b k = at_ k := fun k hq => (g3g k (by omega)).trans ((e10 k (by omega) (by omega)).trans (plo k hq))
      by_cases c0 : R = 0
      · rw [if_pos c0, zl (rf_wrong s1 s3)] at hx
        obtain ⟨w1, w2, w3, w4⟩ := wrong_eq (fp := m6) g3b
        rw [mTl_norow T1 (by rw [eR]; exact c0) rfl w4 w3, ht1] at hm
        subst hx hm
        exact Or.inl ⟨rfl, rfl, rfl, rfl, w1.symm, w2.symm, blo, ⟨by dsimp only; rw [g3g 1640 (by omega), e8]; exact mIn_nI hW5 (by omega), by dsimp only; rw [g3e]; exact mIn_nI g3d (by omega), by dsimp only; rw [g3g 1645 (by omega), e10 1645 (by decide) (by decide), pz 1645 (by decide) (by decide) (by decide) (by decide)]; exact z0, by dsimp only; rw [g3g 1646 (by omega), e10 1646 (by decide) (by decide), pz 1646 (by decide) (by decide) (by decide) (by decide)]; exact z6⟩, fun _ _ => rfl⟩
      · rw [if_neg c0] at hx
        have bz : ∀ k, 1645 ≤ k → k < 2050 → ¬ k = 1649 → ¬ k = 1650 → ¬ k = 1651 → b k = 0 := fun k q1 q2 q3 q4 q5 => (g3g k (by omega)).trans ((e10 k (by omega) q3).trans (pz k (by omega) q2 q4 q5))
        have b50 : b 1650 = -1 := (g3g 1650 (by omega)).trans ((e10 1650 (by decide) (by decide)).trans p50)
        have b51 : b 1651 = -1 := (g3g 1651 (by omega)).trans ((e10 1651 (by decide) (by decide)).trans p51)
        have hP0 : pPs tape zs b names (s1, s2, s3, s4, s6, s7, 0, 0, (fun _ => 0), (fun _ => 0), (fun _ => 0), (fun _ => 0), (fun _ => 0), (fun _ => 0)) (true, m2, m3, m4, m5, m6, 0, b, names) := by
          refine ⟨rfl, g3b, rfl, ⟨Nat.zero_le _, Nat.zero_le _, bz 1645 (by decide) (by decide) (by decide) (by decide) (by decide), bz 1646 (by decide) (by decide) (by decide) (by decide) (by decide)⟩, ⟨fun k hk => absurd hk (Nat.not_lt_zero _), fun k hk => absurd hk (Nat.not_lt_zero _)⟩, fun k hk => ⟨?_, ?_, fun _ => ⟨rfl, rfl⟩⟩, fun k hk => absurd hk (Nat.not_lt_zero _), ?_, fun _ _ _ _ _ => rfl, fun _ _ => rfl⟩
          · exact bz _ (by omega) (by omega) (by omega) (by omega) (by omega)
          · exact bz _ (by omega) (by omega) (by omega) (by omega) (by omega)
          · dsimp only; rw [if_pos rfl]; exact b50
        have P0 := parts_eq (at_ := b) (names := names) (tbeside := fun _ => 0) h h9 t_2 (s1, s2, s3, s4, pic, s6, s7, R, hou, alw, nev) T1 hz1 hx1 (true, m2, m3, m4, m5, m6, 0, b) (.inl (s1, s2, s3, s4, s6, s7, 0, 0, (fun _ => 0), (fun _ => 0), (fun _ => 0), (fun _ => 0), (fun _ => 0), (fun _ => 0))) (true, m2, m3, m4, m5, m6, 0, b, names) ((zs - s1) + 1) ((1 + (zs - m4)) + 1) _ _ hP0 (Nat.lt_succ_self _) (Nat.lt_succ_self _)
        have F1 := parts_fp T1 (true, m2, m3, m4, m5, m6, 0, b) (true, m2, m3, m4, m5, m6, 0, b, names) (true, m2, m3, m4, m5, m6, 0, b, names) ((1 + (zs - m4)) + 1) (-1) (fun _ => q6') (fun _ => q6')
        have eN : mf_town_L72b T1 (true, m2, m3, m4, m5, m6, 0, b) (true, m2, m3, m4, m5, m6, 0, b, names) = zw (mf_town_B72b T1 (true, m2, m3, m4, m5, m6, 0, b)) (true, m2, m3, m4, m5, m6, 0, b, names) ((1 + (zs - m4)) + 1) (true, m2, m3, m4, m5, m6, 0, b, names) := by
          unfold mf_town_L72b
          dsimp only
          rw [if_pos (show true = true from rfl), hz1]
        have eY : rf_town_L80b zs tape (fun _ => 0) t_2 (s1, s2, s3, s4, pic, s6, s7, R, hou, alw, nev) (s1, s2, s3, s4, s6, s7, 0, 0, (fun _ => 0), (fun _ => 0), (fun _ => 0), (fun _ => 0), (fun _ => 0), (fun _ => 0)) = zw (rf_town_B80b zs tape (fun _ => 0) t_2 (s1, s2, s3, s4, pic, s6, s7, R, hou, alw, nev)) (.inl (s1, s2, s3, s4, s6, s7, 0, 0, (fun _ => 0), (fun _ => 0), (fun _ => 0), (fun _ => 0), (fun _ => 0), (fun _ => 0))) ((zs - s1) + 1) (s1, s2, s3, s4, s6, s7, 0, 0, (fun _ => 0), (fun _ => 0), (fun _ => 0), (fun _ => 0), (fun _ => 0), (fun _ => 0)) := rfl
        rcases P0 with ⟨v', w', k1, k2, k3⟩ | ⟨r, w', k1, k2, k3, k4, k5, k6, k7, k8, k9⟩
        · obtain ⟨G1, -⟩ := mTl_go (names := names) (tk := m2) (fr := m3) (en := m4) (val := m5) (fp := m6) (fl := 0) (a := b) T1 (by rw [eR]; exact c0) (eN.trans k2)
          rw [k2] at F1
          rw [zcase_l (eY.trans k1)] at hx
          obtain ⟨l1, l2, l3, ⟨l4, l5, l6, l7⟩, ⟨l8, l9⟩, l10, l11, l12, l13, l14⟩ := k3
          rw [G1 l3, ht1, F1 l3] at hm
          rw [zl (tf_settles t_2.2.1.toNatClampNeg R hou (rf_isWord t_2.2.2.1 t_2.2.2.2.1 t_2.2.2.2.2.1 tape 11) (fun _ => 0)), e3] at hx
          refine Or.inr ⟨by rw [← hx], town_end hW0 hW5 (by omega) g3d l4 l5 ?_ ?_ l6 l7 ?_ l12 ?_ ?_ ?_ (fun k hk => ⟨(l10 k hk).1, (l10 k hk).2.1⟩) l11 ?_ l8 l9 ?_ l14 rfl hx.symm hm.symm⟩
          · exact (l13 1640 (by decide) (by decide) (by decide) (by omega)).trans ((g3g 1640 (by omega)).trans e8)
          · exact (l13 1641 (by decide) (by decide) (by decide) (by omega)).trans g3e
          · exact (l13 1649 (by decide) (by decide) (by decide) (by omega)).trans ((g3g 1649 (by omega)).trans e9)
          · exact (l13 1651 (by decide) (by decide) (by decide) (by omega)).trans b51
          · exact ⟨(l13 1647 (by decide) (by decide) (by decide) (by omega)).trans (bz 1647 (by decide) (by decide) (by decide) (by decide) (by decide)), (l13 1648 (by decide) (by decide) (by decide) (by omega)).trans (bz 1648 (by decide) (by decide) (by decide) (by decide) (by decide))⟩
          · obtain ⟨i1, i2, i3, i4⟩ := g3f
            exact ⟨(l13 1642 (by decide) (by decide) (by decide) (by omega)).trans i1, (l13 1643 (by decide) (by decide) (by decide) (by omega)).trans i2, (l13 1644 (by decide) (by decide) (by decide) (by omega)).trans i3, i4⟩
          · exact fun k hk => (l13 _ (by omega) (by omega) (by omega) (by omega)).trans (bz _ (by omega) (by omega) (by omega) (by omega) (by omega))
          · exact fun k hk => (l13 k (by omega) (by omega) (by omega) (by omega)).trans (blo k hk)
        · obtain ⟨-, G2⟩ := mTl_go (names := names) (tk := m2) (fr := m3) (en := m4) (val := m5) (fp := m6) (fl := 0) (a := b) T1 (by rw [eR]; exact c0) (eN.trans k2)
          rw [G2 k7, ht1] at hm
          rw [zcase_r (eY.trans k1)] at hx
          subst hx hm
          exact Or.inl ⟨k3, rfl, rfl, rfl, k5.symm, k6.symm, fun k hk => (k8.1 k (by omega)).trans (blo k hk), ⟨by rw [k8.1 1640 (by decide), g3g 1640 (by omega), e8]; exact mIn_nI hW5 (by omega), by rw [k8.1 1641 (by decide), g3e]; exact mIn_nI g3d (by omega), k8.2.1, k8.2.2⟩, k9⟩
    · rw [g2] at hm
      rw [zcase_r (eL.trans g1)] at hx
      obtain ⟨m1, m2, m3, m4, m5, m6, m7, b⟩ := m'
      dsimp only at g4 g5 g6 g7 g8 g9
      subst g4
      rw [zl (false, m2, m3, m4, m5, m6, m7, b), mTl_bad T1 g7, ht1] at hm
      subst hx hm
      exact Or.inl ⟨g3, rfl, rfl, rfl, g5.symm, g6.symm, fun k hq => (g8 k (by omega)).trans ((e10 k (by omega) (by omega)).trans (plo k hq)), ⟨by dsimp only; rw [g8 1640 (by omega), e8]; exact mIn_nI hW5 (by omega), g9, by dsimp only; rw [g8 1645 (by omega), e10 1645 (by decide) (by decide), pz 1645 (by decide) (by decide) (by decide) (by decide)]; exact z0, by dsimp only; rw [g8 1646 (by omega), e10 1646 (by decide) (by decide), pz 1646 (by decide) (by decide) (by decide) (by decide)]; exact z6⟩, fun _ _ => rfl⟩
end R42
