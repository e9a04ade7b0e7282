/-! r49: a whole year read on both sides -/
section R49
variable {tape text : Nat → Int32} {zs Wd R nr nc n ct dp to r fr en : Nat} {tk val fp fl kk : Int32} {names trn : Nat → Int64} {at_ a op : Nat → Int32}
def lo8 (r0 : Nat) (fl fp : Int32) (at_ : Nat → Int32) (t : yM8) : Prop := (∀ k, k < r0 → t.2.2.2.2.2.2.2 k = at_ k) ∧ kF fl fp t.2.2.2.2.2.2.1 t.2.2.2.2.2.1
theorem place_p : lo8 to fl fp at_ (mf_placeTo zs tk fr en val fp fl at_ text Wd R to) := by
  unfold mf_placeTo
  refine zl_p _ _ (fun t1 h1 => pI (fun _ => ?_) (fun _ => ?_))
  · refine zl_p _ _ (fun t3 h3 => pI (fun _ => ?_) (fun _ => ?_))
    · exact ⟨fun k hk => (nuE (k := k) h3 (by omega)).trans (nuE (k := k) h1 (by omega)), (kF_t (nuF h1) (nuF h3) :)⟩
    · exact ⟨fun k hk => (nuE (k := k) h3 (by omega)).trans (nuE (k := k) h1 (by omega)), (kF_t (nuF h1) (nuF h3) :)⟩
  · refine ⟨fun k hk => ?_, (nuF h1 :)⟩
    have q : ¬ k = to := by omega
    exact (nuE h1 q :)
theorem old_p : lo8 to fl fp at_ (mf_oldRule zs tk fr en val fp fl at_ names text nr to) := by
  unfold mf_oldRule
  exact pI (fun _ => pI (fun _ => zl_p _ _ (fun t h => ⟨fun k hk => pk_un (by omega), faF h (by decide)⟩)) (fun _ => zl_p _ _ (fun t h => ⟨fun k hk => pk_un (by omega), kF_r⟩))) (fun _ => zl_p _ _ (fun t h => ⟨fun _ _ => rfl, faF h (by decide)⟩))
theorem plE {t : yM8} (h : mf_placeTo zs tk fr en val fp fl at_ text Wd R to = t) : lo8 to fl fp at_ t := by rw [← h]; exact place_p
theorem olE {t : yM8} (h : mf_oldRule zs tk fr en val fp fl at_ names text nr to = t) : lo8 to fl fp at_ t := by rw [← h]; exact old_p
theorem test_p : lo8 r fl fp at_ (mf_test zs tk fr en val fp fl at_ text Wd R r) := by
  unfold mf_test
  refine pI (fun _ => zl_p _ _ (fun t2 _ => pI (fun _ => ⟨fun k hk => pk_un (by omega), kF_r⟩) (fun _ => pI (fun _ => zl_p _ _ (fun t h => ?_)) (fun _ => pI (fun _ => ?_) (fun _ => pI (fun _ => ?_) (fun _ => pI (fun _ => ?_) (fun _ => zl_p _ _ (fun t h => ⟨fun k hk => pk_un (by omega), faF h (by decide)⟩)))))))) (fun _ => zl_p _ _ (fun t h => ⟨fun _ _ => rfl, faF h (by decide)⟩))
  · exact ⟨fun k hk => ((plE h).1 k (by omega)).trans (pk_un (by omega)), (plE h).2⟩
  · exact zl_p _ _ (fun t6 _ => zl_p _ _ (fun t7 h7 => ⟨fun k hk => (nuE h7 (by omega)).trans ((pk_un (by omega)).trans (pk_un (by omega))), nuF h7⟩))
  · exact zl_p _ _ (fun t6 _ => zl_p _ _ (fun t7 h7 => ⟨fun k hk => (nuE h7 (by omega)).trans ((pk_un (by omega)).trans (pk_un (by omega))), nuF h7⟩))
  · exact zl_p _ _ (fun t6 _ => zl_p _ _ (fun t7 h7 => ⟨fun k hk => (nuE h7 (by omega)).trans ((pk_un (by omega)).trans (pk_un (by omega))), nuF h7⟩))
theorem teE {t : yM8} (h : mf_test zs tk fr en val fp fl at_ text Wd R r = t) : lo8 r fl fp at_ t := by rw [← h]; exact test_p
theorem order_p : lo8 r fl fp at_ (mf_yearOrder zs tk fr en val fp fl at_ names text Wd R nr kk r) := by
  unfold mf_yearOrder
  refine pI (fun _ => zl_p _ _ (fun t h => ?_)) (fun _ => pI (fun _ => zl_p _ _ (fun t h => ?_)) (fun _ => pI (fun _ => zl_p _ _ (fun t h => ?_)) (fun _ => pI (fun _ => ⟨fun _ _ => rfl, kF_r⟩) (fun _ => pI (fun _ => zl_p _ _ (fun t h => ?_)) (fun _ => pI (fun _ => ⟨fun _ _ => rfl, kF_r⟩) (fun _ => pI (fun _ => zl_p _ _ (fun t h => ?_)) (fun _ => pI (fun _ => zl_p _ _ (fun t h => ?_)) (fun _ => ⟨fun _ _ => rfl, kF_r⟩))))))))
  · exact ⟨fun k hk => nuE h (by omega), nuF h⟩
  · exact ⟨fun k hk => (plE h).1 k (by omega), (plE h).2⟩
  · exact ⟨fun k hk => (olE h).1 k (by omega), (olE h).2⟩
  · exact ⟨fun k hk => nuE h (by omega), nuF h⟩
  · exact teE h
  · exact ⟨fun k hk => nuE h (by omega), nuF h⟩
theorem orE {t : yM8} (h : mf_yearOrder zs tk fr en val fp fl at_ names text Wd R nr kk r = t) : lo8 r fl fp at_ t := by rw [← h]; exact order_p
def loY (fl fp : Int32) (at_ : Nat → Int32) (t : yM11) : Prop := (∀ k, k < 1684 → ¬ k = 1651 → t.2.2.2.2.2.2.2.2.2.1 k = at_ k) ∧ kF fl fp t.2.2.2.2.2.2.1 t.2.2.2.2.2.1
theorem ystep_p : loY fl fp at_ (mf_yearStep zs tk fr en val fp fl dp ct at_ names text op Wd R nr) := by
  unfold mf_yearStep
  refine zl_p _ _ (fun v _ => ?_)
  have F : ∀ (kind : Int32), ¬ kind = 0 → ∀ t, mf_fails tk fr fp fl kind = t → kF fl fp t.2.2 t.2.1 := fun kind hk t h => faF h hk
  have A : ∀ (t : yM8) (u : Int32 × Nat × Nat × Int32), mf_yearOrder zs u.1 u.2.1 u.2.2.1 u.2.2.2 fp fl (at7 at_ ((at_ 1651).toNatClampNeg) v) names text Wd R nr v (1684 + (6 * ((at_ 1651).toNatClampNeg))) = t → ∀ k, k < 1684 → ¬ k = 1651 → t.2.2.2.2.2.2.2 k = at_ k := fun t u h k k1 k2 => ((orE h).1 k (by omega)).trans (at7_o k2 (by omega))
  refine pI (fun _ => ?_) (fun _ => pI (fun _ => ?_) (fun _ => pI (fun _ => zl_p _ _ (fun t h => ⟨fun _ _ _ => rfl, F 2 (by decide) t h⟩)) (fun _ => pI (fun _ => zl_p _ _ (fun t h => ⟨fun _ _ _ => rfl, F 2 (by decide) t h⟩)) (fun _ => pI (fun _ => pI (fun _ => zl_p _ _ (fun t h => ⟨fun _ _ _ => rfl, F 2 (by decide) t h⟩)) (fun _ => ?_)) (fun _ => pI (fun _ => zl_p _ _ (fun t h => ⟨fun _ _ _ => rfl, F 6 (by decide) t h⟩)) (fun _ => ?_))))))
  · refine pI (fun _ => zl_p _ _ (fun t h => ⟨fun _ _ _ => rfl, F 6 (by decide) t h⟩)) (fun _ => pI (fun _ => zl_p _ _ (fun t h => ⟨fun _ _ _ => rfl, F 7 (by decide) t h⟩)) (fun _ => ?_))
    exact zl_p _ _ (fun t5 _ => zl_p _ _ (fun t6 h6 => pI (fun _ => zl_p _ _ (fun t8 h8 => ⟨A t6 t5 h6, kF_t (orE h6).2 (siF h8)⟩)) (fun _ => ⟨A t6 t5 h6, (orE h6).2⟩)))
  · refine pI (fun _ => zl_p _ _ (fun t h => ⟨fun _ _ _ => rfl, F 6 (by decide) t h⟩)) (fun _ => pI (fun _ => zl_p _ _ (fun t h => ⟨fun _ _ _ => rfl, F 7 (by decide) t h⟩)) (fun _ => ?_))
    exact zl_p _ _ (fun t5 _ => zl_p _ _ (fun t6 h6 => pI (fun _ => zl_p _ _ (fun t8 h8 => ⟨A t6 t5 h6, kF_t (orE h6).2 (siF h8)⟩)) (fun _ => ⟨A t6 t5 h6, (orE h6).2⟩)))
  · exact zl_p _ _ (fun t5 _ => zl_p _ _ (fun t6 h6 => pI (fun _ => zl_p _ _ (fun t8 h8 => ⟨fun k k1 k2 => (pk_un (by omega)).trans ((pk_un (by omega)).trans (A t6 t5 h6 k k1 k2)), kF_t (orE h6).2 (siF h8)⟩)) (fun _ => ⟨A t6 t5 h6, (orE h6).2⟩)))
  · exact zl_p _ _ (fun t5 _ => zl_p _ _ (fun t6 h6 => pI (fun _ => zl_p _ _ (fun t8 h8 => ⟨A t6 t5 h6, kF_t (orE h6).2 (siF h8)⟩)) (fun _ => ⟨A t6 t5 h6, (orE h6).2⟩)))
def yFr (c : Int32) (b : Nat → Int32) (s : yM11) : Prop := (s.2.2.2.2.2.2.1 = 0 → s.2.2.2.2.2.1 = c) ∧ ∀ k, k < 1684 → ¬ k = 1651 → s.2.2.2.2.2.2.2.2.2.1 k = b k
theorem year_fp (t1 : yT1) (c : Int32) (b : Nat → Int32) (n : Nat) (d s : yM11) (hd : yFr c b d) (hs : yFr c b s) : yFr c b (zw (mf_year_B38 names Wd R nr t1) d n s) := by
  refine zw_inv (yFr c b) (yFr c b) ?_ ?_ hd n s hs
  · intro s s' hs e
    unfold mf_year_B38 zlet at e
    split at e
    · split at e
      · cases e
      · cases e
        exact ⟨fun h => (ystep_p.2 h).2.trans (hs.1 (ystep_p.2 h).1), fun k k1 k2 => (ystep_p.1 k k1 k2).trans (hs.2 k k1 k2)⟩
    · cases e
  · intro s r hs e
    unfold mf_year_B38 zlet at e
    split at e
    · split at e
      · cases e; exact hs
      · cases e
    · cases e; exact hs
theorem cpY_n (d : Nat × (Nat → Int32)) : ∀ (n i : Nat) (b : Nat → Int32), 44 ≤ i → i ≤ 405 → 405 - i < n → (zw mf_year_B102 d n (i, b)).2 = fun k => if i ≤ k ∧ k < 405 then b (1640 + k) else b k
  | 0, i, b, _, _, h => absurd h (Nat.not_lt_zero _)
  | n + 1, i, b, h4, h0, h => by
    by_cases c : 405 ≤ i
    · have e1 : mf_year_B102 (i, b) = .inr (i, b) := by unfold mf_year_B102; dsimp only; rw [if_pos c]
      rw [zw_r e1]
      funext k
      rw [if_neg (by omega)]
    · have e1 : mf_year_B102 (i, b) = .inl (i + 1, upd b i (b (1640 + i))) := by unfold mf_year_B102; dsimp only; rw [if_neg c]
      rw [zw_l e1, cpY_n d n (i + 1) _ (by omega) (by omega) (by omega)]
      funext k
      by_cases q : k = i
      · subst q
        rw [if_neg (by omega), if_pos (by omega), pk_us]
      · by_cases q2 : i ≤ k ∧ k < 405
        · rw [if_pos q2, if_pos (by omega), pk_un (by omega)]
        · rw [if_neg q2, if_neg (by omega), pk_un q]
theorem cpY (b : Nat → Int32) (k : Nat) : (mf_year_L102 (44, b)).2 k = if 44 ≤ k ∧ k < 405 then b (1640 + k) else b k := by
  unfold mf_year_L102
  rw [cpY_n (44, b) _ 44 b (by omega) (by omega) (Nat.lt_succ_self _)]
/-- the model behind an opened text -/
def mYt (names : Nat → Int64) (Wd R nr : Nat) (at_ op : Nat → Int32) (t_1 : yT1) : Int32 × Int32 × Int32 × Nat × Int32 × Nat × Nat × Int32 × Int32 × Int32 × Int32 × Int32 × Int32 × Int32 × (Nat → Int32) × (Nat → Int32) × (Nat → Int32) :=
    zlet (mf_year_L38 names Wd R nr t_1 (true, t_1.2.2.2.1, t_1.2.2.2.2.1, t_1.2.2.2.2.2.1, t_1.2.2.2.2.2.2.1, t_1.2.2.2.2.2.2.2.1, t_1.2.2.2.2.2.2.2.2.1, 0, 0, upd at_ 1651 0, op)) (fun t_3 =>
    (if t_3.2.2.2.2.2.2.1 = 0 then
      (if t_3.2.2.2.2.2.2.2.1 = 0 then
        zlet (mf_year_L102  (44, upd t_3.2.2.2.2.2.2.2.2.2.1 11 (t_3.2.2.2.2.2.2.2.2.2.1 1651))) (fun t_10 =>
        zlet (mf_taken t_3.2.2.2.2.2.2.1 (nI t_3.2.2.2.2.2.2.2.2.1)) (fun t_12 =>
        (t_12.1, t_12.2.1, t_1.2.1, t_1.2.2.1, t_3.2.1, t_3.2.2.1, t_3.2.2.2.1, t_3.2.2.2.2.1, t_12.2.2, t_3.2.2.2.2.2.1, t_3.2.2.2.2.2.2.1, t_1.2.2.2.2.2.2.2.2.2.1, nI t_3.2.2.2.2.2.2.2.1, nI t_3.2.2.2.2.2.2.2.2.1, t_10.2, t_1.2.2.2.2.2.2.2.2.2.2, t_3.2.2.2.2.2.2.2.2.2.2)))
      else
        zlet (mf_fails t_3.2.1 t_3.2.2.1 t_3.2.2.2.2.2.1 t_3.2.2.2.2.2.2.1 2) (fun t_13 =>
        (if t_13.2.2 = 0 then
          zlet (mf_year_L102b  (44, upd t_3.2.2.2.2.2.2.2.2.2.1 11 (t_3.2.2.2.2.2.2.2.2.2.1 1651))) (fun t_16 =>
          zlet (mf_taken t_13.2.2 (nI t_3.2.2.2.2.2.2.2.2.1)) (fun t_18 =>
          (t_18.1, t_18.2.1, t_1.2.1, t_1.2.2.1, t_3.2.1, t_3.2.2.1, t_3.2.2.2.1, t_3.2.2.2.2.1, t_18.2.2, t_13.2.1, t_13.2.2, t_1.2.2.2.2.2.2.2.2.2.1, nI t_3.2.2.2.2.2.2.2.1, nI t_3.2.2.2.2.2.2.2.2.1, t_16.2, t_1.2.2.2.2.2.2.2.2.2.2, t_3.2.2.2.2.2.2.2.2.2.2)))
        else
          zlet (mf_taken t_13.2.2 (nI t_3.2.2.2.2.2.2.2.2.1)) (fun t_15 =>
          (t_15.1, t_15.2.1, t_1.2.1, t_1.2.2.1, t_3.2.1, t_3.2.2.1, t_3.2.2.2.1, t_3.2.2.2.2.1, t_15.2.2, t_13.2.1, t_13.2.2, t_1.2.2.2.2.2.2.2.2.2.1, nI t_3.2.2.2.2.2.2.2.1, nI t_3.2.2.2.2.2.2.2.2.1, t_3.2.2.2.2.2.2.2.2.2.1, t_1.2.2.2.2.2.2.2.2.2.2, t_3.2.2.2.2.2.2.2.2.2.2)))))
    else
      zlet (mf_taken t_3.2.2.2.2.2.2.1 (nI t_3.2.2.2.2.2.2.2.2.1)) (fun t_8 =>
      (t_8.1, t_8.2.1, t_1.2.1, t_1.2.2.1, t_3.2.1, t_3.2.2.1, t_3.2.2.2.1, t_3.2.2.2.2.1, t_8.2.2, t_3.2.2.2.2.2.1, t_3.2.2.2.2.2.2.1, t_1.2.2.2.2.2.2.2.2.2.1, nI t_3.2.2.2.2.2.2.2.1, nI t_3.2.2.2.2.2.2.2.2.1, t_3.2.2.2.2.2.2.2.2.2.1, t_1.2.2.2.2.2.2.2.2.2.2, t_3.2.2.2.2.2.2.2.2.2.2))))
abbrev yM17 : Type := Int32 × Int32 × Int32 × Nat × Int32 × Nat × Nat × Int32 × Int32 × Int32 × Int32 × Int32 × Int32 × Int32 × (Nat → Int32) × (Nat → Int32) × (Nat → Int32)
/-- what both keep of a year that was refused -/
def yrB (ρ : yR) (m : yM17) (at_ : Nat → Int32) : Prop := m.1 = -1 ∧ m.2.1 = 9 ∧ m.2.2.1 = 0 ∧ m.2.2.2.2.2.2.2.2.1 = ρ.2.2.2.2.2.1 ∧ m.2.2.2.2.2.2.2.2.2.1 = ρ.2.2.2.2.2.2 ∧ ∀ k, k < 1684 → ¬ k = 1651 → m.2.2.2.2.2.2.2.2.2.2.2.2.2.2.1 k = at_ k
/-- and of one that was taken -/
def yrG (ρ : yR) (cs : List (yT 3)) (m : yM17) (at_ : Nat → Int32) (Wd R nr : Nat) : Prop := m.1 = nI ρ.2.2.2.2.1 ∧ m.2.1 = 0 ∧ m.2.2.1 = 0 ∧ m.2.2.2.2.2.2.2.2.1 = 0 ∧ m.2.2.2.2.2.2.2.2.2.1 = -1 ∧ (∀ k, k < 1684 → ¬ k = 1651 → ¬ k = 11 → ¬ (44 ≤ k ∧ k < 405) → m.2.2.2.2.2.2.2.2.2.2.2.2.2.2.1 k = at_ k) ∧ ∃ nn : Nat, nn ≤ 60 ∧ m.2.2.2.2.2.2.2.2.2.2.2.2.2.2.1 11 = nI nn ∧ yEncs (yEnc m.2.2.2.2.2.2.2.2.2.2.2.2.2.2.1 Wd R nr 3) cs 0 nn
theorem year_read (h : pTx tape text zs) (h9 : zs ≤ 900) (hk : pTk tape zs (cf_Reader tape zs) (tk, fr, en, val)) (hW0 : 1 ≤ Wd) (hW : Wd ≤ 5) (hR0 : 1 ≤ R) (hR : R ≤ 6) (h4 : nr ≤ 4) (hnm : ∀ k, k < nr → pNm (trn k) (names k)) (sn bk bp : Int32) (X : yR × Option (List (yT 3))) (hX : yKi (fun ρ => decide (ρ.2.2.1 = 0)) (yStep (yX zs Wd R nr nc tape trn) 3) (zs - (cf_Reader tape zs).1 + 1) (((cf_Reader tape zs).1, (cf_Reader tape zs).2.1, (cf_Reader tape zs).2.2.1, (cf_Reader tape zs).2.2.2, 0, bk, bp) : yR) [] = X) (m : yM17) (hm : mYt names Wd R nr at_ op (true, 0, zs, tk, fr, en, val, -1, 0, sn, text) = m) : (X.2 = none ∧ yrB X.1 m at_) ∨ (∃ cs, X.2 = some cs ∧ yrG X.1 cs m at_ Wd R nr) := by
  obtain ⟨T1, hT1⟩ : ∃ T1 : yT1, T1 = (true, 0, zs, tk, fr, en, val, -1, 0, sn, text) := ⟨_, rfl⟩
  have hz1 : T1.2.2.1 = zs := by rw [hT1]
  have ht1 : T1.2.1 = 0 := by rw [hT1]
  have hx1 : T1.2.2.2.2.2.2.2.2.2.2 = text := by rw [hT1]
  obtain ⟨μ, hμ⟩ : ∃ μ : yM11, μ = (true, tk, fr, en, val, -1, 0, 0, 0, upd at_ 1651 0, op) := ⟨_, rfl⟩
  have eμ : (true, T1.2.2.2.1, T1.2.2.2.2.1, T1.2.2.2.2.2.1, T1.2.2.2.2.2.2.1, T1.2.2.2.2.2.2.2.1, T1.2.2.2.2.2.2.2.2.1, 0, 0, upd at_ 1651 0, op) = μ := by rw [hT1, hμ]
  rw [← hT1] at hm
  unfold mYt at hm
  rw [eμ] at hm
  have hs : pYs tape zs ((cf_Reader tape zs).1, (cf_Reader tape zs).2.1, (cf_Reader tape zs).2.2.1, (cf_Reader tape zs).2.2.2, 0, bk, bp) μ 0 := by
    rw [hμ]
    exact ⟨rfl, hk, rfl, rfl, Nat.zero_le _, (show upd at_ 1651 0 1651 = nI 0 from pk_us.trans rfl), Nat.le_refl _⟩
  have eL : mf_year_L38 names Wd R nr T1 μ = zw (mf_year_B38 names Wd R nr T1) μ ((1 + (zs - en)) + 1) μ := by
    unfold mf_year_L38
    rw [hμ]
    dsimp only
    rw [if_pos (show true = true from rfl), hz1]
  have hfr : yFr (-1) (upd at_ 1651 0) μ := by
    rw [hμ]
    exact ⟨fun _ => rfl, fun _ _ _ => rfl⟩
  have FP := year_fp (names := names) (Wd := Wd) (R := R) (nr := nr) T1 (-1) (upd at_ 1651 0) ((1 + (zs - en)) + 1) μ μ hfr hfr
  rw [← eL] at FP
  have e1 := hk.1
  have e2 := hk.2.1
  have e3 := hk.2.2.1
  have e4 := hk.2.2.2.1
  dsimp only at e1 e2 e3 e4
  have men : μ.2.2.2.1 = en := by rw [hμ]
  have mdp : μ.2.2.2.2.2.2.2.1 = 0 := by rw [hμ]
  have mop : μ.2.2.2.2.2.2.2.2.2.2 = op := by rw [hμ]
  have mat : μ.2.2.2.2.2.2.2.2.2.1 = upd at_ 1651 0 := by rw [hμ]
  rcases kids_y (names := names) (t1 := T1) (d := μ) (enc := fun a => yEnc a Wd R nr 3) (step_y h h9 hz1 hx1 hW0 hW hR0 hR h4 hnm 3) (fun a t k e => yEnc_lt 3 t k e) (fun a a' t k e ht hj => yEnc_same2 (K := k) (N := e) hj 3 t k e ht (Nat.le_refl _) (Nat.le_refl _)) (isE := fun ρ => decide (ρ.2.2.1 = 0)) (fun ρ μ n hs hl hq => ⟨fun _ => by omega, fun q => absurd (decide_eq_true ((tk_end hs.2.1).mpr q)) hq⟩) (zs - (cf_Reader tape zs).1 + 1) _ μ 0 [] hs (by omega) (by dsimp only; omega) with ⟨ρ', cs, f1, f2, μ', n', k, k1, k2, k3, k4, k5, k6, k7, k8⟩ | ⟨ρ', f1, μ', k, k1, k2, k3⟩
  · rw [hX] at f1
    have z0 : μ'.2.1 = 0 := (tk_end k2.2.1).mp (of_decide_eq_true f2)
    have hen := (pYs_en k2).1
    have eR : mf_year_L38 names Wd R nr T1 μ = μ' := by
      rw [eL, show (1 + (zs - en)) + 1 = ((zs - en) + 2 - k - 1 + 1) + k by omega, k1, zw_r (yB_end k2.1 z0)]
    rw [eR] at hm FP
    obtain ⟨c1, c2, c3, c4, c5, c6, c7⟩ := k2
    rw [zl μ', if_pos c3, if_pos (by rw [k5, mdp]), zl (mf_year_L102 (44, upd μ'.2.2.2.2.2.2.2.2.2.1 11 (μ'.2.2.2.2.2.2.2.2.2.1 1651))), c3, zl (mf_taken 0 (nI μ'.2.2.2.2.2.2.2.2.1)), taken_ok, ht1] at hm
    subst hm
    rw [f1]
    refine Or.inr ⟨cs, rfl, ?_, rfl, rfl, rfl, FP.1 c3, fun j j1 j2 j3 j4 => ?_, n', by omega, ?_, ?_⟩
    · dsimp only; rw [c4]
    · dsimp only
      rw [cpY, if_neg j4, pk_un j3, FP.2 j j1 j2, pk_un j2]
    · dsimp only
      rw [cpY, if_neg (by omega), pk_us, c6]
    · refine yEncs_same2 (K := 0) (N := 60) (yEnc_lt 3) (fun t k e ht a1 a2 => yEnc_same2 (K := k) (N := e) (fun j j1 j2 => ?_) 3 t k e ht (Nat.le_refl _) (Nat.le_refl _)) cs 0 n' k8 (Nat.le_refl _) (by omega)
      dsimp only
      rw [cpY, if_pos (by omega), pk_un (by omega)]
  · rw [hX] at f1
    have key : ∀ (fp' fl' : Int32) (t3 : yM11), mf_year_L38 names Wd R nr T1 μ = t3 → μ' = t3 → (∀ k, k < 1684 → ¬ k = 1651 → t3.2.2.2.2.2.2.2.2.2.1 k = at_ k) := fun _ _ t3 q1 _ k j1 j2 => by rw [← q1, FP.2 k j1 j2, pk_un j2]
    rw [f1]
    rcases k3 with ⟨c1, c2, c3, c4⟩ | ⟨c1, c2, c3, c4, c5, c6, c7⟩
    · have eR : mf_year_L38 names Wd R nr T1 μ = μ' := by
        rw [eL, show (1 + (zs - en)) + 1 = ((zs - en) + 2 - k - 1 + 1) + k by omega, k1, zw_r (yB_bad c1)]
      have ka := key 0 0 μ' eR rfl
      rw [eR, zl μ', if_neg (pos_n0 c4), zl (mf_taken μ'.2.2.2.2.2.2.1 (nI μ'.2.2.2.2.2.2.2.2.1)), taken_bad c4, ht1] at hm
      subst hm
      exact Or.inl ⟨rfl, rfl, rfl, rfl, c2.symm, c3.symm, ka⟩
    · have eR : mf_year_L38 names Wd R nr T1 μ = μ' := by
        rw [eL, show (1 + (zs - en)) + 1 = ((zs - en) + 2 - k - 1 + 1) + k by omega, k1, zw_r (yB_end c1 c2)]
      have ka := key 0 0 μ' eR rfl
      rw [eR, zl μ', if_pos c3, if_neg (by omega), zl (mf_fails μ'.2.1 μ'.2.2.1 μ'.2.2.2.2.2.1 μ'.2.2.2.2.2.2.1 2), c3, if_neg (pos_n0 c7), zl (mf_taken (mf_fails μ'.2.1 μ'.2.2.1 μ'.2.2.2.2.2.1 0 2).2.2 (nI μ'.2.2.2.2.2.2.2.2.1)), taken_bad c7, ht1] at hm
      subst hm
      exact Or.inl ⟨rfl, rfl, rfl, rfl, c5.symm, c6.symm, ka⟩
end R49
