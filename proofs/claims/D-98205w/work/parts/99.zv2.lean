/-! r21: a year lived: what one act does -/
section R21
variable {a a0 b ra : Nat → Int32} {Wd R nr nc nn k n rs : Nat} {dr : Int32} {uborn ustays : Nat → Int32} {thouses talways tnever : Int32} {tring : Bool} {tbeside tleast tmost : Nat → Int32} {trnames : Nat → Int64} {σ : yS}
/-- what stands of the town all through a year -/
def lvE (a0 : Nat → Int32) (Wd R nr nc nn : Nat) (thouses talways tnever : Int32) (tbeside tleast tmost : Nat → Int32) : Prop := mYR a0 Wd R nr nc nn ∧ (∀ k, k < Wd * R → zpc (tbeside k) ≤ 4) ∧ Wd * R ≤ 30 ∧ talways &&& thouses = talways ∧ thouses &&& (talways ||| tnever) = (talways ||| tnever) ∧ pC a0 nc tleast tmost ∧ pLk nc tleast tmost
/-- a run of the tree and a run of the table stand alike -/
def lvR (a0 : Nat → Int32) (Wd R nr : Nat) (uborn ustays : Nat → Int32) (thouses talways tnever : Int32) (tbeside : Nat → Int32) (σ : yS) (dr : Int32) (rs : Nat) (a ra : Nat → Int32) : Prop :=
  σ.1 = dr ∧ σ.2.1 = nI rs ∧ (ra 0 = σ.2.2.1 ∧ ra 1 = σ.2.2.2.1 ∧ ra 2 = σ.2.2.2.2.1 ∧ ra 3 = σ.2.2.2.2.2.1 ∧ ra 4 = zb σ.2.2.2.2.2.2.2.1) ∧ pH a Wd R nr σ.2.2.2.2.2.2.2.2.1 σ.2.2.2.2.2.2.2.2.2.1 σ.2.2.2.2.2.2.2.2.2.2.1 σ.2.2.2.2.2.2.2.2.2.2.2.1 uborn ustays σ.2.2.2.2.2.2.2.2.2.2.2.2 thouses talways tnever tbeside ∧ pL thouses talways tnever σ.2.2.2.2.2.2.2.2.1 ∧ (∀ k, k < 10 → ¬ σ.2.2.2.2.2.2.2.2.2.2.2.2 k < 0 ∧ σ.2.2.2.2.2.2.2.2.2.2.2.2 k ≤ 3) ∧ ∀ j, ¬ j = 3 → ¬ j = 7 → ¬ j = 8 → ¬ j = 10 → ¬ (32 ≤ j ∧ j < 42) → a j = a0 j
def yRow (a : Nat → Int32) (Wd R nr k : Nat) (t : Int32 × Nat) : Prop :=
  (t.1 = 0 ∧ a (44 + 6 * k) = 9 ∧ a (44 + 6 * k + 1) = nI t.2 ∧ t.2 ≤ 99) ∨ (t.1 = 1 ∧ a (44 + 6 * k) = 10 ∧ ∃ x y : Nat, x < Wd ∧ y < R ∧ a (44 + 6 * k + 1) = nI x ∧ a (44 + 6 * k + 2) = nI y ∧ t.2 = Wd * y + x) ∨ (t.1 = 2 ∧ a (44 + 6 * k) = 11 ∧ a (44 + 6 * k + 1) = nI t.2 ∧ t.2 < nr) ∨ (t.1 = 3 ∧ a (44 + 6 * k) = 12) ∨ (t.1 = 4 ∧ a (44 + 6 * k) = 13 ∧ a (44 + 6 * k + 1) = nI t.2 ∧ t.2 ≤ 16) ∨ (t.1 = 5 ∧ a (44 + 6 * k) = 14) ∨ (t.1 = 6 ∧ a (44 + 6 * k) = 18)
theorem pL_flip {x : Int32} {k : Nat} (hk : k < 32) (h : pL thouses talways tnever x) (hf : (((thouses &&& ((talways ||| tnever) ^^^ (-1))) >>> (nI k &&& 31)) &&& 1) = 1) : pL thouses talways tnever (x ^^^ ((1 : Int32) <<< (nI k &&& 31))) := by
  obtain ⟨f1, f2⟩ := free_bt hk hf
  refine ⟨b_ext fun i hi => ?_, b_ext fun i hi => ?_⟩
  · have h1 := congrArg (fun q => bt q i) h.1
    simp only [b_and] at h1
    rw [b_and, b_xor, bt_s hk hi]
    by_cases c : i = k
    · subst c
      rw [f2] at h1 ⊢
      simp at h1 ⊢
      exact h1
    · rw [← h1]; simp [c]
  · have h1 := congrArg (fun q => bt q i) h.2
    simp only [b_and] at h1
    rw [b_and, b_xor, bt_s hk hi]
    by_cases c : i = k
    · subst c; rw [f1]; simp
    · simp [c]; simpa using h1
theorem pL_clear {x : Int32} {k : Nat} (hk : k < 32) (h : pL thouses talways tnever x) (hf : bt (talways ||| tnever) k = false) : pL thouses talways tnever (x &&& (((1 : Int32) <<< (nI k &&& 31)) ^^^ (-1))) := by
  refine ⟨b_ext fun i hi => ?_, b_ext fun i hi => ?_⟩
  · have h1 := congrArg (fun q => bt q i) h.1
    simp only [b_and] at h1
    rw [b_and, b_and, b_xor, bt_s hk hi, b_m1 i hi]
    by_cases c : i = k
    · subst c
      rw [hf] at h1 ⊢
      simp at h1 ⊢
      exact h1
    · rw [← h1]; simp [c]
  · have h1 := congrArg (fun q => bt q i) h.2
    simp only [b_and] at h1
    rw [b_and, b_and, b_xor, bt_s hk hi, b_m1 i hi]
    by_cases c : i = k
    · subst c; simp
    · simp [c]; simpa using h1
theorem draw_eq (d x : Int32) : mf_draw d x = yf_draw d x := rfl
theorem upd_eq3 {s a : Nat → Int32} {x : Int32} {o : Nat} (h3 : s o = x) (hj : ∀ j, ¬ j = o → s j = a j) : s = upd a o x := by
  funext j
  by_cases e : j = o
  · subst e; rw [pk_us]; exact h3
  · rw [pk_un e]; exact hj j e
theorem r_storms {lit sc : Int32} {an : Nat} (h3 : a 3 = lit) (h4 : a 4 = (talways ||| tnever)) (hL : pL thouses talways tnever lit) (h30 : Wd * R ≤ 30) (h2 : ra 2 = sc) : ∀ n, n ≤ Wd * R → (zf (mf_storms_B18 a Wd R (nI an)) (dr, a, ra) n).1 = (zf (yf_storm_B16 an lit Wd R thouses talways tnever) (dr, sc, lit) n).1 ∧ (zf (mf_storms_B18 a Wd R (nI an)) (dr, a, ra) n).2.1 3 = (zf (yf_storm_B16 an lit Wd R thouses talways tnever) (dr, sc, lit) n).2.2 ∧ (∀ j, ¬ j = 3 → (zf (mf_storms_B18 a Wd R (nI an)) (dr, a, ra) n).2.1 j = a j) ∧ (zf (mf_storms_B18 a Wd R (nI an)) (dr, a, ra) n).2.2 2 = (zf (yf_storm_B16 an lit Wd R thouses talways tnever) (dr, sc, lit) n).2.1 ∧ (∀ j, ¬ j = 2 → (zf (mf_storms_B18 a Wd R (nI an)) (dr, a, ra) n).2.2 j = ra j) ∧ pL thouses talways tnever (zf (yf_storm_B16 an lit Wd R thouses talways tnever) (dr, sc, lit) n).2.2 := by
  intro n
  induction n with
  | zero => exact fun _ => ⟨rfl, h3, fun _ _ => rfl, h2, fun _ _ => rfl, hL⟩
  | succ n ih =>
    intro hn
    obtain ⟨i1, i2, i3, i4, i5, i6⟩ := ih (by omega)
    show (mf_storms_B18 a Wd R (nI an) n (zf (mf_storms_B18 a Wd R (nI an)) (dr, a, ra) n)).1 = (yf_storm_B16 an lit Wd R thouses talways tnever n (zf (yf_storm_B16 an lit Wd R thouses talways tnever) (dr, sc, lit) n)).1 ∧ (mf_storms_B18 a Wd R (nI an) n (zf (mf_storms_B18 a Wd R (nI an)) (dr, a, ra) n)).2.1 3 = (yf_storm_B16 an lit Wd R thouses talways tnever n (zf (yf_storm_B16 an lit Wd R thouses talways tnever) (dr, sc, lit) n)).2.2 ∧ (∀ j, ¬ j = 3 → (mf_storms_B18 a Wd R (nI an) n (zf (mf_storms_B18 a Wd R (nI an)) (dr, a, ra) n)).2.1 j = a j) ∧ (mf_storms_B18 a Wd R (nI an) n (zf (mf_storms_B18 a Wd R (nI an)) (dr, a, ra) n)).2.2 2 = (yf_storm_B16 an lit Wd R thouses talways tnever n (zf (yf_storm_B16 an lit Wd R thouses talways tnever) (dr, sc, lit) n)).2.1 ∧ (∀ j, ¬ j = 2 → (mf_storms_B18 a Wd R (nI an) n (zf (mf_storms_B18 a Wd R (nI an)) (dr, a, ra) n)).2.2 j = ra j) ∧ pL thouses talways tnever (yf_storm_B16 an lit Wd R thouses talways tnever n (zf (yf_storm_B16 an lit Wd R thouses talways tnever) (dr, sc, lit) n)).2.2
    generalize zf (mf_storms_B18 a Wd R (nI an)) (dr, a, ra) n = s at i1 i2 i3 i4 i5 ⊢
    generalize zf (yf_storm_B16 an lit Wd R thouses talways tnever) (dr, sc, lit) n = t at i1 i2 i4 i6 ⊢
    obtain ⟨s1, s2, s3⟩ := s
    obtain ⟨t1, t2, t3⟩ := t
    dsimp only at i1 i2 i3 i4 i5 i6
    have em : (a 3 &&& (a 4 ^^^ (-1))) = (lit &&& (thouses &&& ((talways ||| tnever) ^^^ (-1)))) := by
      rw [h3, h4, ← Int32.and_assoc, hL.2]
    unfold mf_storms_B18 yf_storm_B16 zlet
    rw [em, draw_eq]
    dsimp only
    rw [i1]
    rcases z_b01 ((lit &&& (thouses &&& ((talways ||| tnever) ^^^ (-1)))) >>> ((nI n) &&& 31)) with f | f
    · rw [if_pos f, if_pos f]
      exact ⟨rfl, i2, i3, i4, i5, i6⟩
    · have f0 : ¬ ((lit &&& (thouses &&& ((talways ||| tnever) ^^^ (-1)))) >>> ((nI n) &&& 31)) &&& 1 = 0 := by rw [f]; decide
      rw [if_neg f0, if_neg f0]
      by_cases c : (yf_draw t1 16).1 < nI an
      · rw [if_pos c, if_pos c]
        have hb : bt (talways ||| tnever) n = false := by
          have hz := (not_congr (i_msk (z := lit &&& (thouses &&& ((talways ||| tnever) ^^^ (-1)))) (show n < 32 by omega))).mp (by rw [← i_tst]; exact f0)
          rw [b_and, b_and, b_xor, b_m1 n (by omega)] at hz
          cases h1 : bt (talways ||| tnever) n
          · rfl
          · rw [h1] at hz; simp at hz
        refine ⟨rfl, ?_, fun j hj => (pk_un hj).trans (i3 j hj), ?_, fun j hj => (pk_un hj).trans (i5 j hj), pL_clear (by omega) i6 hb⟩
        · dsimp only
          rw [pk_us, i2]
        · dsimp only
          rw [pk_us, i4]
      · rw [if_neg c, if_neg c]
        exact ⟨rfl, i2, i3, i4, i5, i6⟩
theorem pl_in {x y : Nat} (hW : 1 ≤ Wd ∧ Wd ≤ 5) (hR : 1 ≤ R ∧ R ≤ 6) (hx : x < Wd) (hy : y < R) : xf_isPlace Wd R (nI x) (nI y) = true := by
  rw [← r_place hW.1 hW.2 hR.1 hR.2]
  unfold mf_isPlace
  rw [if_neg (nI_pos (by omega)), if_neg (nI_ge hx (by omega)), if_neg (nI_pos (by omega)), if_neg (nI_ge hy (by omega))]
theorem lvR_mOK (hE : lvE a0 Wd R nr nc nn thouses talways tnever tbeside tleast tmost) (h : lvR a0 Wd R nr uborn ustays thouses talways tnever tbeside σ dr rs a ra) : mOK a Wd R nr nc := by
  obtain ⟨h0, h1, h5, h6, -⟩ := hE.1.1
  have hf := h.2.2.2.2.2.2
  have hm := h.2.2.2.1.2.2.2.2.2.2.1
  have h10 := h.2.2.2.1.2.2.2.2.2.1
  refine ⟨?_, ?_, ?_, ?_, ?_⟩
  · rw [hf 0 (by omega) (by omega) (by omega) (by omega) (by omega)]; exact h0
  · rw [hf 1 (by omega) (by omega) (by omega) (by omega) (by omega)]; exact h1
  · rw [hf 5 (by omega) (by omega) (by omega) (by omega) (by omega)]; exact h5
  · rw [hf 6 (by omega) (by omega) (by omega) (by omega) (by omega)]; exact h6
  · rw [h10]; exact hm
theorem lvR_Y (hE : lvE a0 Wd R nr nc nn thouses talways tnever tbeside tleast tmost) (h : lvR a0 Wd R nr uborn ustays thouses talways tnever tbeside σ dr rs a ra) : mYR a Wd R nr nc nn :=
  mYR_same hE.1 (lvR_mOK hE h) (fun j hj => h.2.2.2.2.2.2 j (by omega) (by omega) (by omega) (by omega) (by omega))
theorem lvR_C (hE : lvE a0 Wd R nr nc nn thouses talways tnever tbeside tleast tmost) (h : lvR a0 Wd R nr uborn ustays thouses talways tnever tbeside σ dr rs a ra) : pC a nc tleast tmost := by
  obtain ⟨h6, hc⟩ := hE.2.2.2.2.2.1
  refine ⟨h6, fun k hk => ?_⟩
  rw [h.2.2.2.2.2.2 (20 + 2 * k) (by omega) (by omega) (by omega) (by omega) (by omega), h.2.2.2.2.2.2 (20 + 2 * k + 1) (by omega) (by omega) (by omega) (by omega) (by omega)]
  exact hc k hk
theorem lvR_row (h : lvR a0 Wd R nr uborn ustays thouses talways tnever tbeside σ dr rs a ra) (j : Nat) (hj : 44 ≤ j) : a j = a0 j := h.2.2.2.2.2.2 j (by omega) (by omega) (by omega) (by omega) (by omega)
theorem act_does {t : Int32 × Nat} (hE : lvE a0 Wd R nr nc nn thouses talways tnever tbeside tleast tmost) (hrow : yRow a0 Wd R nr k t) (h6 : ¬ t.1 = 6) (h : lvR a0 Wd R nr uborn ustays thouses talways tnever tbeside σ dr rs a ra) : lvR a0 Wd R nr uborn ustays thouses talways tnever tbeside (yAct (Wd, R, nr, nc, thouses, talways, tnever, tring, uborn, ustays, tbeside, tleast, tmost, trnames) t.1 t.2 σ) (mf_does dr a b ra Wd R nr nc k).2.1 rs (mf_does dr a b ra Wd R nr nc k).2.2.1 (upd (mf_does dr a b ra Wd R nr nc k).2.2.2.2 0 (ra 0 + (if (mf_does dr a b ra Wd R nr nc k).1 = true then 0 else 1))) ∧ (yAct (Wd, R, nr, nc, thouses, talways, tnever, tring, uborn, ustays, tbeside, tleast, tmost, trnames) t.1 t.2 σ).2.2.2.2.2.2.1 = σ.2.2.2.2.2.2.1 := by
  have hrw := lvR_row h
  have hC := lvR_C hE h
  obtain ⟨s0, s1, s2, s3, s4, s5, s6, s7, s8, s9, s10, s11, s12⟩ := σ
  obtain ⟨w, an⟩ := t
  obtain ⟨hY, hbe, h30, hsub, hst, -, hLk⟩ := hE
  have hW := hY.1.1.2
  have hR := hY.1.2.1.2
  obtain ⟨q0, q1, ⟨q2, q3, q4, q5, q6⟩, q7, q8, q9, q10⟩ := h
  dsimp only at q0 q1 q2 q3 q4 q5 q6 q7 q8 q9 q10 h6
  have e0 := hrw (44 + 6 * k) (by omega)
  have e1 := hrw (44 + 6 * k + 1) (by omega)
  have e2 := hrw (44 + 6 * k + 2) (by omega)
  have u0 : ∀ x : Int32, x + 0 = x := fun x => Int32.add_zero x
  rcases hrow with ⟨r0, r1, r2, r3⟩ | ⟨r0, r1, x, y, hx, hy, r2, r3, r4⟩ | ⟨r0, r1, r2, r3⟩ | ⟨r0, r1⟩ | ⟨r0, r1, r2, r3⟩ | ⟨r0, r1⟩ | ⟨r0, r1⟩
  · dsimp only at r0 r2 r3
    subst r0
    have ed : mf_does dr a b ra Wd R nr nc k = (true, dr, (zf (mf_night_B20 Wd R 0) (a, b) an).1, (zf (mf_night_B20 Wd R 0) (a, b) an).2, upd ra 1 (ra 1 + nI an)) := by
      unfold mf_does
      rw [e0, r1, if_pos rfl]
      unfold mf_does_L54 zlet
      rw [e1, r2, nI_clamp (by omega)]
      rfl
    have ey : yAct (Wd, R, nr, nc, thouses, talways, tnever, tring, uborn, ustays, tbeside, tleast, tmost, trnames) 0 an (s0, s1, s2, s3, s4, s5, s6, s7, s8, s9, s10, s11, s12) = (s0, s1, s2, s3 + nI an, s4, s5, s6, s7, (zf (xf_night_B32 s9 uborn ustays Wd R thouses talways tnever tbeside 0) (s8, s10, s11, s12) an).1, s9, (zf (xf_night_B32 s9 uborn ustays Wd R thouses talways tnever tbeside 0) (s8, s10, s11, s12) an).2.1, (zf (xf_night_B32 s9 uborn ustays Wd R thouses talways tnever tbeside 0) (s8, s10, s11, s12) an).2.2.1, (zf (xf_night_B32 s9 uborn ustays Wd R thouses talways tnever tbeside 0) (s8, s10, s11, s12) an).2.2.2) := by
      unfold yAct yf_actdoes yf_can
      rw [if_pos rfl]
      rfl
    obtain ⟨p1, p2, p3, p4⟩ := r_nights (b := b) hbe h30 hsub 0 q7 q8 q9 an
    dsimp only
    rw [ed, ey]
    dsimp only
    rw [if_pos rfl]
    refine ⟨⟨q0, q1, ⟨?_, ?_, ?_, ?_, ?_⟩, p1, p2, p3, fun j j3 j7 j8 j10 j32 => (p4 j j3 j7 j8 j32).trans (q10 j j3 j7 j8 j10 j32)⟩, rfl⟩
    · rw [pk_us, q2]; exact u0 _
    · rw [pk_un (by omega), pk_us, q3]
    · rw [pk_un (by omega), pk_un (by omega), q4]
    · rw [pk_un (by omega), pk_un (by omega), q5]
    · rw [pk_un (by omega), pk_un (by omega), q6]
  · dsimp only at r0 r4
    subst r0
    have hn30 : an < 30 := by rw [r4]; exact z_cell h30 hx hy
    have en : nI Wd * nI y + nI x = nI an := by rw [pk_mul, nI_add, r4]
    have ew : mf_wrongLamp a Wd R (nI x) (nI y) = if (((thouses &&& ((talways ||| tnever) ^^^ (-1))) >>> ((nI an) &&& 31)) &&& 1) = 1 then 0 else 7 := by
      rw [r_wrongLamp q7.1 hst hW.1 hW.2 hR.1 hR.2]
      unfold xf_whyStuck
      rw [if_pos (pl_in hW hR hx hy), en]
    have ey : yAct (Wd, R, nr, nc, thouses, talways, tnever, tring, uborn, ustays, tbeside, tleast, tmost, trnames) 1 an (s0, s1, s2, s3, s4, s5, s6, s7, s8, s9, s10, s11, s12) = if (((thouses &&& ((talways ||| tnever) ^^^ (-1))) >>> ((nI an) &&& 31)) &&& 1) = 0 then (s0, s1, s2 + 1, s3, s4, s5, s6, s7, s8, s9, s10, s11, s12) else (s0, s1, s2, s3, s4, s5, s6, s7, s8 ^^^ ((1 : Int32) <<< ((nI an) &&& 31)), s9, s10, s11, s12) := by
      unfold yAct yf_actdoes yf_can
      rw [if_neg (by decide), if_pos rfl]
      split <;> rfl
    have ed : mf_does dr a b ra Wd R nr nc k = if mf_wrongLamp a Wd R (nI x) (nI y) ≤ 0 then (true, dr, upd a 3 ((a 3) ^^^ ((1 : Int32) <<< ((nI an) &&& 31))), b, ra) else (false, dr, a, b, ra) := by
      unfold mf_does mf_bitOf
      rw [e0, r1, if_neg (by decide), if_pos rfl, e1, e2, r2, r3, en]
    dsimp only
    rw [ed, ey, ew]
    rcases z_b01 ((thouses &&& ((talways ||| tnever) ^^^ (-1))) >>> ((nI an) &&& 31)) with f | f
    · rw [f, if_pos rfl, if_neg (show ¬ (0 : Int32) = 1 by decide), if_neg (show ¬ (7 : Int32) ≤ 0 by decide)]
      dsimp only
      rw [if_neg (by decide)]
      refine ⟨⟨q0, q1, ⟨?_, ?_, ?_, ?_, ?_⟩, q7, q8, q9, q10⟩, rfl⟩
      · rw [pk_us, q2]
      · rw [pk_un (by omega), q3]
      · rw [pk_un (by omega), q4]
      · rw [pk_un (by omega), q5]
      · rw [pk_un (by omega), q6]
    · have hp := pL_flip (k := an) (by omega) q8 f
      rw [f, if_neg (show ¬ (1 : Int32) = 0 by decide), if_pos rfl, if_pos (show (0 : Int32) ≤ 0 by decide)]
      dsimp only
      rw [if_pos rfl, q7.2.1]
      refine ⟨⟨q0, q1, ⟨?_, ?_, ?_, ?_, ?_⟩, pH_lit q7 hp.1, hp, q9, fun j j3 j7 j8 j10 j32 => (pk_un j3).trans (q10 j j3 j7 j8 j10 j32)⟩, rfl⟩
      · rw [pk_us, q2]; exact u0 _
      · rw [pk_un (by omega), q3]
      · rw [pk_un (by omega), q4]
      · rw [pk_un (by omega), q5]
      · rw [pk_un (by omega), q6]
  · dsimp only at r0 r2 r3
    subst r0
    have ed : mf_does dr a b ra Wd R nr nc k = (true, dr, upd a 10 (nI an), b, ra) := by
      unfold mf_does
      rw [e0, r1, if_neg (by decide), if_neg (by decide), if_pos rfl, e1, r2]
    have ey : yAct (Wd, R, nr, nc, thouses, talways, tnever, tring, uborn, ustays, tbeside, tleast, tmost, trnames) 2 an (s0, s1, s2, s3, s4, s5, s6, s7, s8, s9, s10, s11, s12) = (s0, s1, s2, s3, s4, s5, s6, s7, s8, nI an, s10, s11, s12) := by
      unfold yAct yf_actdoes yf_can
      rw [if_neg (by decide), if_neg (by decide), if_pos rfl]
      rfl
    have hr4 := q7.2.2.2.2.2.2.2.1
    dsimp only
    rw [ed, ey]
    dsimp only
    rw [if_pos rfl]
    refine ⟨⟨q0, q1, ⟨?_, ?_, ?_, ?_, ?_⟩, pH_mayor q7 ⟨nI_pos (by omega), by rw [nI_clamp (by omega)]; exact r3⟩, q8, q9, fun j j3 j7 j8 j10 j32 => (pk_un j10).trans (q10 j j3 j7 j8 j10 j32)⟩, rfl⟩
    · rw [pk_us, q2]; exact u0 _
    · rw [pk_un (by omega), q3]
    · rw [pk_un (by omega), q4]
    · rw [pk_un (by omega), q5]
    · rw [pk_un (by omega), q6]
  · dsimp only at r0
    subst r0
    obtain ⟨z1, z2⟩ := r_elects b q7 hC hLk
    have ed : mf_does dr a b ra Wd R nr nc k = ((mf_elects a b Wd R nr nc).1, dr, (mf_elects a b Wd R nr nc).2.1, (mf_elects a b Wd R nr nc).2.2, ra) := by
      unfold mf_does
      rw [e0, r1, if_neg (by decide), if_neg (by decide), if_neg (by decide), if_pos rfl]
      rfl
    have ey : yAct (Wd, R, nr, nc, thouses, talways, tnever, tring, uborn, ustays, tbeside, tleast, tmost, trnames) 3 an (s0, s1, s2, s3, s4, s5, s6, s7, s8, s9, s10, s11, s12) = if (hf_elects s8 s9 uborn ustays Wd R thouses talways tnever nr nc tbeside tleast tmost).1 = true then (s0, s1, s2, s3, s4, s5, s6, s7, s8, (hf_elects s8 s9 uborn ustays Wd R thouses talways tnever nr nc tbeside tleast tmost).2, s10, s11, s12) else (s0, s1, s2 + 1, s3, s4, s5, s6, s7, s8, (hf_elects s8 s9 uborn ustays Wd R thouses talways tnever nr nc tbeside tleast tmost).2, s10, s11, s12) := by
      unfold yAct yf_actdoes yf_can
      rw [if_neg (by decide), if_neg (by decide), if_neg (by decide), if_pos rfl]
      unfold zlet
      dsimp only
      split <;> rfl
    have hr4 := q7.2.2.2.2.2.2.2.1
    dsimp only
    rw [ed, ey, ← z1]
    rcases z2 with ⟨p0, p1, p2⟩ | ⟨v, hv, p1, p2, p3⟩
    · rw [p0, p1, p2, if_neg (by decide)]
      dsimp only
      rw [if_neg (by decide)]
      refine ⟨⟨q0, q1, ⟨?_, ?_, ?_, ?_, ?_⟩, q7, q8, q9, q10⟩, rfl⟩
      · rw [pk_us, q2]
      · rw [pk_un (by omega), q3]
      · rw [pk_un (by omega), q4]
      · rw [pk_un (by omega), q5]
      · rw [pk_un (by omega), q6]
    · rw [p1, p2, p3, if_pos rfl]
      dsimp only
      rw [if_pos rfl]
      refine ⟨⟨q0, q1, ⟨?_, ?_, ?_, ?_, ?_⟩, pH_mayor q7 ⟨nI_pos (by omega), by rw [nI_clamp (by omega)]; exact hv⟩, q8, q9, fun j j3 j7 j8 j10 j32 => (pk_un j10).trans (q10 j j3 j7 j8 j10 j32)⟩, rfl⟩
      · rw [pk_us, q2]; exact u0 _
      · rw [pk_un (by omega), q3]
      · rw [pk_un (by omega), q4]
      · rw [pk_un (by omega), q5]
      · rw [pk_un (by omega), q6]
  · dsimp only at r0 r2 r3
    subst r0
    obtain ⟨p1, p2, p3, p4, p5, p6⟩ := r_storms (dr := dr) (an := an) q7.2.1 q7.1.2.1 q8 h30 q4 (Wd * R) (Nat.le_refl _)
    have ed : mf_does dr a b ra Wd R nr nc k = (true, (zf (mf_storms_B18 a Wd R (nI an)) (dr, a, ra) (Wd * R)).1, (zf (mf_storms_B18 a Wd R (nI an)) (dr, a, ra) (Wd * R)).2.1, b, (zf (mf_storms_B18 a Wd R (nI an)) (dr, a, ra) (Wd * R)).2.2) := by
      unfold mf_does
      rw [e0, r1, if_neg (by decide), if_neg (by decide), if_neg (by decide), if_neg (by decide), if_pos rfl, e1, r2]
      rfl
    have ey : yAct (Wd, R, nr, nc, thouses, talways, tnever, tring, uborn, ustays, tbeside, tleast, tmost, trnames) 4 an (s0, s1, s2, s3, s4, s5, s6, s7, s8, s9, s10, s11, s12) = ((zf (yf_storm_B16 an s8 Wd R thouses talways tnever) (s0, s4, s8) (Wd * R)).1, s1, s2, s3, (zf (yf_storm_B16 an s8 Wd R thouses talways tnever) (s0, s4, s8) (Wd * R)).2.1, s5, s6, s7, (zf (yf_storm_B16 an s8 Wd R thouses talways tnever) (s0, s4, s8) (Wd * R)).2.2, s9, s10, s11, s12) := by
      unfold yAct yf_actdoes yf_can
      rw [if_neg (by decide), if_neg (by decide), if_neg (by decide), if_neg (by decide), if_pos rfl]
      rfl
    dsimp only
    rw [ed, ey, q0]
    generalize zf (mf_storms_B18 a Wd R (nI an)) (dr, a, ra) (Wd * R) = s at p1 p2 p3 p4 p5 ⊢
    generalize zf (yf_storm_B16 an s8 Wd R thouses talways tnever) (dr, s4, s8) (Wd * R) = t at p1 p2 p4 p6 ⊢
    dsimp only
    rw [if_pos rfl, upd_eq3 p2 p3]
    refine ⟨⟨p1.symm, q1, ⟨?_, ?_, ?_, ?_, ?_⟩, pH_lit q7 p6.1, p6, q9, fun j j3 j7 j8 j10 j32 => (pk_un j3).trans (q10 j j3 j7 j8 j10 j32)⟩, rfl⟩
    · rw [pk_us, q2]; exact u0 _
    · rw [pk_un (by omega), p5 _ (by omega), q3]
    · rw [pk_un (by omega), p4]
    · rw [pk_un (by omega), p5 _ (by omega), q5]
    · rw [pk_un (by omega), p5 _ (by omega), q6]
  · dsimp only at r0
    subst r0
    have ed : mf_does dr a b ra Wd R nr nc k = if (((thouses &&& ((talways ||| tnever) ^^^ (-1))) &&& (s8 ^^^ (-1))) &&& ((1 : Int32) <<< ((nI Wd * (yf_draw (yf_draw dr (nI Wd)).2 (nI R)).1 + (yf_draw dr (nI Wd)).1) &&& 31))) = 0 then (false, (yf_draw (yf_draw dr (nI Wd)).2 (nI R)).2, a, b, ra) else (true, (yf_draw (yf_draw dr (nI Wd)).2 (nI R)).2, upd a 3 (s8 ||| ((1 : Int32) <<< ((nI Wd * (yf_draw (yf_draw dr (nI Wd)).2 (nI R)).1 + (yf_draw dr (nI Wd)).1) &&& 31))), b, upd ra 3 (ra 3 + 1)) := by
      unfold mf_does
      rw [e0, r1, if_neg (by decide), if_neg (by decide), if_neg (by decide), if_neg (by decide), if_neg (by decide), if_pos rfl]
      unfold mf_isBorn zlet mf_bitOf
      dsimp only
      rw [draw_eq, draw_eq, r_free q7.1, q7.2.1]
      split <;> rfl
    have ey : yAct (Wd, R, nr, nc, thouses, talways, tnever, tring, uborn, ustays, tbeside, tleast, tmost, trnames) 5 an (s0, s1, s2, s3, s4, s5, s6, s7, s8, s9, s10, s11, s12) = if (((thouses &&& ((talways ||| tnever) ^^^ (-1))) &&& (s8 ^^^ (-1))) &&& ((1 : Int32) <<< ((nI Wd * (yf_draw (yf_draw s0 (nI Wd)).2 (nI R)).1 + (yf_draw s0 (nI Wd)).1) &&& 31))) = 0 then ((yf_draw (yf_draw s0 (nI Wd)).2 (nI R)).2, s1, s2 + 1, s3, s4, s5, s6, s7, s8, s9, s10, s11, s12) else ((yf_draw (yf_draw s0 (nI Wd)).2 (nI R)).2, s1, s2, s3, s4, s5 + 1, s6, s7, s8 ||| ((1 : Int32) <<< ((nI Wd * (yf_draw (yf_draw s0 (nI Wd)).2 (nI R)).1 + (yf_draw s0 (nI Wd)).1) &&& 31)), s9, s10, s11, s12) := by
      unfold yAct yf_actdoes yf_can
      rw [if_neg (by decide), if_neg (by decide), if_neg (by decide), if_neg (by decide), if_neg (by decide), if_pos rfl]
      unfold yf_birth zlet
      dsimp only
      split <;> rfl
    dsimp only
    rw [ed, ey, q0]
    obtain ⟨jj, hjj, ej⟩ := i_sh (nI Wd * (yf_draw (yf_draw dr (nI Wd)).2 (nI R)).1 + (yf_draw dr (nI Wd)).1)
    rw [ej]
    by_cases c : (((thouses &&& ((talways ||| tnever) ^^^ (-1))) &&& (s8 ^^^ (-1))) &&& ((1 : Int32) <<< (nI jj &&& 31))) = 0
    · rw [if_pos c, if_pos c]
      dsimp only
      rw [if_neg (by decide)]
      refine ⟨⟨rfl, q1, ⟨?_, ?_, ?_, ?_, ?_⟩, q7, q8, q9, q10⟩, rfl⟩
      · rw [pk_us, q2]
      · rw [pk_un (by omega), q3]
      · rw [pk_un (by omega), q4]
      · rw [pk_un (by omega), q5]
      · rw [pk_un (by omega), q6]
    · rw [if_neg c, if_neg c]
      have hfr : (((thouses &&& ((talways ||| tnever) ^^^ (-1))) >>> (nI jj &&& 31)) &&& 1) = 1 := by
        rw [i_tst1, i_msk hjj]
        intro q
        apply c
        rw [i_msk hjj, b_and, q]
        rfl
      have hp := pL_or hjj q8 hfr
      dsimp only
      rw [if_pos rfl]
      refine ⟨⟨rfl, q1, ⟨?_, ?_, ?_, ?_, ?_⟩, pH_lit q7 hp.1, hp, q9, fun j j3 j7 j8 j10 j32 => (pk_un j3).trans (q10 j j3 j7 j8 j10 j32)⟩, rfl⟩
      · rw [pk_us, q2]; exact u0 _
      · rw [pk_un (by omega), pk_un (by omega), q3]
      · rw [pk_un (by omega), pk_un (by omega), q4]
      · rw [pk_un (by omega), pk_us, q5]
      · rw [pk_un (by omega), pk_un (by omega), q6]
  · exact absurd r0 h6
end R21
