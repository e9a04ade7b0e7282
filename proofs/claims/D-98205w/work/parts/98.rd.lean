/-! r13: the least mend -/
def bb (i j : Nat) : Int32 := ((1 : Int32) <<< (nI i &&& 31)) ||| ((1 : Int32) <<< (nI j &&& 31))
theorem bb_n : ∀ i, i < 30 → ∀ j, j < 30 → zpc (bb i j) = (if i = j then 1 else 2) ∧ bb i j = bb j i := by decide +kernel
theorem bb_s : ∀ i, i < 30 → bb i i = (1 : Int32) <<< (nI i &&& 31) := by decide +kernel
/-- better: fewer left, then fewer turned, then the smaller set -/
def kLt (lf : Int32 → Nat) (s t : Int32) : Prop := lf s < lf t ∨ (lf s = lf t ∧ (zpc s < zpc t ∨ (zpc s = zpc t ∧ s < t)))
theorem kLt_tr {lf : Int32 → Nat} {s t u : Int32} (h1 : kLt lf s t) (h2 : kLt lf t u) : kLt lf s u := by
  unfold kLt at *
  rcases h1 with a | ⟨a, b | ⟨b, c⟩⟩ <;> rcases h2 with d | ⟨d, e | ⟨e, f⟩⟩
  · exact Or.inl (by omega)
  · exact Or.inl (by omega)
  · exact Or.inl (by omega)
  · exact Or.inl (by omega)
  · exact Or.inr ⟨by omega, Or.inl (by omega)⟩
  · exact Or.inr ⟨by omega, Or.inl (by omega)⟩
  · exact Or.inl (by omega)
  · exact Or.inr ⟨by omega, Or.inl (by omega)⟩
  · exact Or.inr ⟨by omega, Or.inr ⟨by omega, Int32.lt_trans c f⟩⟩
def Bst (lf : Int32 → Nat) (V : Int32 → Prop) (s : Int32) : Prop := V s ∧ ∀ t, V t → ¬ kLt lf t s
theorem bs_u {lf : Int32 → Nat} {V V' : Int32 → Prop} {s s' : Int32} (h : Bst lf V s) (h' : Bst lf V' s') (hV : ∀ t, V t ↔ V' t) : s = s' := by
  have a := h.2 s' ((hV s').mpr h'.1)
  have b := h'.2 s ((hV s).mp h.1)
  unfold kLt at a b
  have e1 : lf s = lf s' := Nat.le_antisymm (Nat.not_lt.mp (fun q => a (Or.inl q))) (Nat.not_lt.mp (fun q => b (Or.inl q)))
  have e2 : zpc s = zpc s' := Nat.le_antisymm (Nat.not_lt.mp (fun q => a (Or.inr ⟨e1.symm, Or.inl q⟩))) (Nat.not_lt.mp (fun q => b (Or.inr ⟨e1, Or.inl q⟩)))
  exact Int32.le_antisymm (Int32.not_lt.mp (fun q => a (Or.inr ⟨e1.symm, Or.inr ⟨e2.symm, q⟩⟩))) (Int32.not_lt.mp (fun q => b (Or.inr ⟨e1, Or.inr ⟨e2, q⟩⟩)))
theorem bs_take {lf : Int32 → Nat} {V V' : Int32 → Prop} {s s0 : Int32} (h : Bst lf V s0) (hk : kLt lf s s0) (hV : ∀ t, V' t ↔ V t ∨ t = s) : Bst lf V' s := by
  refine ⟨(hV s).mpr (Or.inr rfl), fun t ht q => ?_⟩
  rcases (hV t).mp ht with r | r
  · exact h.2 t r (kLt_tr q hk)
  · subst r
    unfold kLt at q
    rcases q with q | ⟨_, q | ⟨_, q⟩⟩
    · omega
    · omega
    · exact Int32.lt_irrefl q
theorem bs_keep {lf : Int32 → Nat} {V V' : Int32 → Prop} {s s0 : Int32} (h : Bst lf V s0) (hk : ¬ kLt lf s s0) (hV : ∀ t, V' t ↔ V t ∨ t = s) : Bst lf V' s0 := by
  refine ⟨(hV s0).mpr (Or.inl h.1), fun t ht q => ?_⟩
  rcases (hV t).mp ht with r | r
  · exact h.2 t r q
  · subst r; exact hk q
theorem bs_same {lf : Int32 → Nat} {V V' : Int32 → Prop} {s0 : Int32} (h : Bst lf V s0) (hV : ∀ t, V' t ↔ V t) : Bst lf V' s0 := ⟨(hV s0).mpr h.1, fun t ht => h.2 t ((hV t).mp ht)⟩
/-- none, one or two free houses -/
def vP (fr : Int32) (N : Nat) (P : Nat → Nat → Prop) (t : Int32) : Prop := t = 0 ∨ ∃ i j, i ≤ j ∧ j < N ∧ bt fr i = true ∧ bt fr j = true ∧ P i j ∧ t = bb i j
theorem vP_add {fr : Int32} {N i0 j0 : Nat} {P P' : Nat → Nat → Prop} (h1 : i0 ≤ j0) (h2 : j0 < N) (f1 : bt fr i0 = true) (f2 : bt fr j0 = true) (hP : ∀ i j, i ≤ j → j < N → (P' i j ↔ P i j ∨ (i = i0 ∧ j = j0))) (t : Int32) : vP fr N P' t ↔ vP fr N P t ∨ t = bb i0 j0 := by
  constructor
  · rintro (q | ⟨i, j, a, b, c, d, e, f⟩)
    · exact Or.inl (Or.inl q)
    · rcases (hP i j a b).mp e with r | ⟨r1, r2⟩
      · exact Or.inl (Or.inr ⟨i, j, a, b, c, d, r, f⟩)
      · subst r1; subst r2; exact Or.inr f
  · rintro ((q | ⟨i, j, a, b, c, d, e, f⟩) | q)
    · exact Or.inl q
    · exact Or.inr ⟨i, j, a, b, c, d, (hP i j a b).mpr (Or.inl e), f⟩
    · exact Or.inr ⟨i0, j0, h1, h2, f1, f2, (hP i0 j0 h1 h2).mpr (Or.inr ⟨rfl, rfl⟩), q⟩
theorem vP_same {fr : Int32} {N : Nat} {P P' : Nat → Nat → Prop} (hP : ∀ i j, i ≤ j → j < N → bt fr i = true → bt fr j = true → (P' i j ↔ P i j)) (t : Int32) : vP fr N P' t ↔ vP fr N P t := by
  constructor
  · rintro (q | ⟨i, j, a, b, c, d, e, f⟩)
    · exact Or.inl q
    · exact Or.inr ⟨i, j, a, b, c, d, (hP i j a b c d).mp e, f⟩
  · rintro (q | ⟨i, j, a, b, c, d, e, f⟩)
    · exact Or.inl q
    · exact Or.inr ⟨i, j, a, b, c, d, (hP i j a b c d).mpr e, f⟩
theorem bb_fr {fr : Int32} {i j : Nat} (hi : i < 32) (hj : j < 32) : (bb i j &&& (fr ^^^ (-1))) = 0 ↔ bt fr i = true ∧ bt fr j = true := by
  have hb : ∀ m, m < 32 → bt (bb i j &&& (fr ^^^ (-1))) m = ((decide (m = i) || decide (m = j)) && !(bt fr m)) := fun m hm => by
    unfold bb
    rw [b_and, b_or, bt_s hi hm, bt_s hj hm, b_xor, b_m1 m hm, Bool.xor_true]
  constructor
  · intro h
    have g : ∀ m, m < 32 → (m = i ∨ m = j) → bt fr m = true := fun m hm hq => by
      have := hb m hm
      rw [h, b_0] at this
      cases e : bt fr m
      · rw [e] at this
        rcases hq with q | q
        · rw [decide_eq_true q] at this; cases this
        · rw [decide_eq_true q, Bool.or_true] at this; cases this
      · rfl
    exact ⟨g i hi (Or.inl rfl), g j hj (Or.inr rfl)⟩
  · rintro ⟨h1, h2⟩
    refine b_ext (fun m hm => ?_)
    rw [hb m hm, b_0]
    by_cases q : m = i
    · rw [q, h1]; simp
    · by_cases r : m = j
      · rw [r, h2]; simp
      · rw [decide_eq_false q, decide_eq_false r]; rfl
theorem nI_eqI {x y : Nat} (hx : x < 2 ^ 31) (hy : y < 2 ^ 31) : nI x = nI y ↔ x = y := ⟨fun h => by rw [← nI_clamp hx, ← nI_clamp hy, h], fun h => by rw [h]⟩
section R13
variable {a b th : Nat → Int32} {Wd R nr nc : Nat} {ulit umayor unight uoil : Int32} {uborn ustays useen : Nat → Int32} {thouses talways tnever : Int32} {tbeside tleast tmost : Nat → Int32}
/-- what is left to mend -/
def mLf (ulit umayor : Int32) (uborn ustays : Nat → Int32) (Wd R : Nat) (thouses talways tnever : Int32) (tbeside : Nat → Int32) (pic : Int64) (s : Int32) : Nat := xf_unlikeTo Wd R (hf_next umayor uborn ustays Wd R thouses talways tnever tbeside (ulit ^^^ s)) pic
theorem mLf_le {pic : Int64} {s : Int32} : mLf ulit umayor uborn ustays Wd R thouses talways tnever tbeside pic s ≤ 32 := zpc_le _
theorem mLf_m {pic : Int64} {s : Int32} (h : pH a Wd R nr ulit umayor unight uoil uborn ustays useen thouses talways tnever tbeside) (h30 : Wd * R ≤ 30) (hsub : talways &&& thouses = talways) (hN : ∀ i, i < 32 → bt thouses i = true → i < Wd * R) : zpc ((mf_becomes a (mf_laysNear a b Wd R) Wd R ((a 3) ^^^ s) (a 10)) ^^^ (pic.toInt32 &&& (mf_whole Wd R))) = mLf ulit umayor uborn ustays Wd R thouses talways tnever tbeside pic s := by
  have hp := pL_next (umayor := umayor) (uborn := uborn) (ustays := ustays) (tbeside := tbeside) (pic := ulit ^^^ s) (tnever := tnever) h30 hsub
  unfold mLf xf_unlikeTo mf_whole
  rw [h.2.1, r_next h]
  generalize hf_next umayor uborn ustays Wd R thouses talways tnever tbeside (ulit ^^^ s) = n at hp ⊢
  congr 1
  refine b_ext (fun i hi => ?_)
  rw [b_xor, b_and, b_and, b_xor, low_b (Wd * R) (by omega) i hi]
  by_cases c : i < Wd * R
  · rw [decide_eq_true c, Bool.and_true, Bool.and_true]
  · rw [decide_eq_false c, Bool.and_false, Bool.and_false, Bool.xor_false]
    cases e : bt n i
    · rfl
    · rw [← hp.2, b_and, Bool.and_eq_true] at e
      exact absurd (hN i hi e.2) c
/-- one step of the model -/
theorem mm_step {lf : Int32 → Nat} {pic : Int64} {t6 : Nat → Int32} {k l : Nat} {s : Int32} {V V' : Int32 → Prop} (hlf : ∀ s, zpc ((mf_becomes a t6 Wd R ((a 3) ^^^ s) (a 10)) ^^^ (pic.toInt32 &&& (mf_whole Wd R))) = lf s) (h : Bst lf V s) (hl : l < Wd * R) (hk : k < 32) (h32 : Wd * R ≤ 32) (hy : bt (mf_free a) k = true → bt (mf_free a) l = true → ∀ t, V' t ↔ V t ∨ t = bb k l) (hn : ¬ (bt (mf_free a) k = true ∧ bt (mf_free a) l = true) → ∀ t, V' t ↔ V t) : ∃ s', mf_mend_B92 a Wd R pic t6 k (l, zpc s, lf s, s) = .inl (l + 1, zpc s', lf s', s') ∧ Bst lf V' s' := by
  unfold mf_mend_B92
  dsimp only
  rw [if_neg (by omega), show ((1 : Int32) <<< (nI k &&& 31)) ||| ((1 : Int32) <<< (nI l &&& 31)) = bb k l from rfl, hlf]
  by_cases c : (bb k l &&& (mf_free a ^^^ (-1))) = 0
  · rw [if_pos c]
    obtain ⟨f1, f2⟩ := (bb_fr hk (by omega)).mp c
    have hV := hy f1 f2
    by_cases d : lf (bb k l) < lf s
    · rw [if_pos d]; exact ⟨_, rfl, bs_take h (Or.inl d) hV⟩
    · rw [if_neg d]
      by_cases e : lf (bb k l) = lf s
      · rw [if_pos e]
        by_cases f : zpc (bb k l) < zpc s
        · rw [if_pos f]; exact ⟨_, rfl, bs_take h (Or.inr ⟨e, Or.inl f⟩) hV⟩
        · rw [if_neg f]
          by_cases g : zpc (bb k l) = zpc s
          · rw [if_pos g]
            by_cases i : s ≤ bb k l
            · rw [if_pos i]
              refine ⟨_, rfl, bs_keep h (fun q => ?_) hV⟩
              rcases q with q | ⟨_, q | ⟨_, q⟩⟩
              · exact d q
              · exact f q
              · exact Int32.not_lt.mpr i q
            · rw [if_neg i]; exact ⟨_, rfl, bs_take h (Or.inr ⟨e, Or.inr ⟨g, Int32.not_le.mp i⟩⟩) hV⟩
          · rw [if_neg g]
            refine ⟨_, rfl, bs_keep h (fun q => ?_) hV⟩
            rcases q with q | ⟨_, q | ⟨q, _⟩⟩
            · exact d q
            · exact f q
            · exact g q
      · rw [if_neg e]
        refine ⟨_, rfl, bs_keep h (fun q => ?_) hV⟩
        rcases q with q | ⟨q, _⟩
        · exact d q
        · exact e q
  · rw [if_neg c]
    exact ⟨_, rfl, bs_same h (hn (fun q => c ((bb_fr hk (by omega)).mpr q)))⟩
theorem mm_row {lf : Int32 → Nat} {pic : Int64} {t6 : Nat → Int32} {k : Nat} (hlf : ∀ s, zpc ((mf_becomes a t6 Wd R ((a 3) ^^^ s) (a 10)) ^^^ (pic.toInt32 &&& (mf_whole Wd R))) = lf s) (hk : k < Wd * R) (h32 : Wd * R ≤ 32) (d : Nat × Nat × Nat × Int32) : ∀ n l s, Wd * R - l < n → k ≤ l → l ≤ Wd * R → Bst lf (vP (mf_free a) (Wd * R) (fun i j => i < k ∨ (i = k ∧ j < l))) s → ∃ s', zw (mf_mend_B92 a Wd R pic t6 k) d n (l, zpc s, lf s, s) = (Wd * R, zpc s', lf s', s') ∧ Bst lf (vP (mf_free a) (Wd * R) (fun i j => i < k + 1 ∨ (i = k + 1 ∧ j < k + 1))) s' := by
  intro n
  induction n with
  | zero => intro l s h; exact absurd h (Nat.not_lt_zero _)
  | succ n ih =>
    intro l s h hkl hl hB
    by_cases c : Wd * R ≤ l
    · have e : l = Wd * R := Nat.le_antisymm hl c
      subst e
      refine ⟨s, zw_r (by unfold mf_mend_B92; dsimp only; rw [if_pos c]), bs_same hB (vP_same (fun i j hij hj _ _ => ?_))⟩
      omega
    · obtain ⟨s', e1, e2⟩ := mm_step (V' := vP (mf_free a) (Wd * R) (fun i j => i < k ∨ (i = k ∧ j < l + 1))) hlf hB (show l < Wd * R by omega) (show k < 32 by omega) h32 (fun f1 f2 => vP_add hkl (by omega) f1 f2 (fun i j _ _ => by omega)) (fun q => vP_same (fun i j _ _ f1 f2 => by
        constructor
        · rintro (z | ⟨z1, z2⟩)
          · exact Or.inl z
          · by_cases w : j = l
            · subst w; subst z1; exact absurd ⟨f1, f2⟩ q
            · exact Or.inr ⟨z1, by omega⟩
        · rintro (z | ⟨z1, z2⟩)
          · exact Or.inl z
          · exact Or.inr ⟨z1, by omega⟩))
      rw [zw_l e1]
      exact ih (l + 1) s' (by omega) (by omega) (by omega) e2
theorem mm_all {lf : Int32 → Nat} {pic : Int64} {t6 : Nat → Int32} (hlf : ∀ s, zpc ((mf_becomes a t6 Wd R ((a 3) ^^^ s) (a 10)) ^^^ (pic.toInt32 &&& (mf_whole Wd R))) = lf s) (h32 : Wd * R ≤ 32) {s : Int32} (hB : Bst lf (vP (mf_free a) (Wd * R) (fun i j => i < 0 ∨ (i = 0 ∧ j < 0))) s) : ∀ n, n ≤ Wd * R → ∃ s', zf (mf_mend_B79 a Wd R pic t6) (zpc s, lf s, s) n = (zpc s', lf s', s') ∧ Bst lf (vP (mf_free a) (Wd * R) (fun i j => i < n ∨ (i = n ∧ j < n))) s'
  | 0, _ => ⟨s, rfl, hB⟩
  | n + 1, hn => by
    obtain ⟨s', e1, e2⟩ := mm_all hlf h32 hB n (by omega)
    obtain ⟨s2, e3, e4⟩ := mm_row hlf (show n < Wd * R by omega) h32 (n, zpc s', lf s', s') ((Wd * R - n) + 1) n s' (Nat.lt_succ_self _) (Nat.le_refl _) (by omega) e2
    refine ⟨s2, ?_, e4⟩
    show mf_mend_B79 a Wd R pic t6 n (zf (mf_mend_B79 a Wd R pic t6) (zpc s, lf s, s) n) = _
    rw [e1]
    unfold mf_mend_B79 zlet mf_mend_L92
    dsimp only
    rw [e3]
/-- one step of the system -/
theorem xm_step {pic : Int64} {s c sz : Int32} {V V' : Int32 → Prop} (h : Bst (mLf ulit umayor uborn ustays Wd R thouses talways tnever tbeside pic) V s) (hsz : sz = nI (zpc c)) (hV : ∀ t, V' t ↔ V t ∨ t = c) : ∃ s', xf_mends s (nI (zpc s)) (nI (mLf ulit umayor uborn ustays Wd R thouses talways tnever tbeside pic s)) ulit umayor uborn ustays Wd R thouses talways tnever tbeside c sz pic = (s', nI (zpc s'), nI (mLf ulit umayor uborn ustays Wd R thouses talways tnever tbeside pic s')) ∧ Bst (mLf ulit umayor uborn ustays Wd R thouses talways tnever tbeside pic) V' s' := by
  subst hsz
  have b1 : ∀ s, mLf ulit umayor uborn ustays Wd R thouses talways tnever tbeside pic s < 2 ^ 31 := fun s => Nat.lt_of_le_of_lt mLf_le (by decide)
  have b2 : ∀ s : Int32, zpc s < 2 ^ 31 := fun s => Nat.lt_of_le_of_lt (zpc_le s) (by decide)
  unfold xf_mends
  rw [show xf_unlikeTo Wd R (hf_next umayor uborn ustays Wd R thouses talways tnever tbeside (ulit ^^^ c)) pic = mLf ulit umayor uborn ustays Wd R thouses talways tnever tbeside pic c from rfl, if_neg (nI_pos (b1 s))]
  generalize mLf ulit umayor uborn ustays Wd R thouses talways tnever tbeside pic = lf at h b1 ⊢
  by_cases d : nI (lf s) < nI (lf c)
  · rw [if_pos d]
    have d := (nI_ltI (b1 s) (b1 c)).mp d
    refine ⟨s, rfl, bs_keep h (fun q => ?_) hV⟩
    rcases q with q | ⟨q, _⟩ <;> omega
  · rw [if_neg d]
    have d : ¬ lf s < lf c := fun q => d ((nI_ltI (b1 s) (b1 c)).mpr q)
    by_cases e : nI (lf c) = nI (lf s)
    · rw [if_pos e]
      have e1 := (nI_eqI (b1 c) (b1 s)).mp e
      by_cases f : nI (zpc s) < nI (zpc c)
      · rw [if_pos f]
        have f := (nI_ltI (b2 s) (b2 c)).mp f
        refine ⟨s, rfl, bs_keep h (fun q => ?_) hV⟩
        rcases q with q | ⟨_, q | ⟨q, _⟩⟩ <;> omega
      · rw [if_neg f]
        have f : ¬ zpc s < zpc c := fun q => f ((nI_ltI (b2 s) (b2 c)).mpr q)
        by_cases g : nI (zpc c) = nI (zpc s)
        · rw [if_pos g]
          have g1 := (nI_eqI (b2 c) (b2 s)).mp g
          by_cases i : c < s
          · rw [if_pos i]
            exact ⟨c, rfl, bs_take h (Or.inr ⟨e1, Or.inr ⟨g1, i⟩⟩) hV⟩
          · rw [if_neg i]
            refine ⟨s, rfl, bs_keep h (fun q => ?_) hV⟩
            rcases q with q | ⟨_, q | ⟨_, q⟩⟩
            · omega
            · omega
            · exact i q
        · rw [if_neg g]
          have g1 : ¬ zpc c = zpc s := fun q => g ((nI_eqI (b2 c) (b2 s)).mpr q)
          exact ⟨c, rfl, bs_take h (Or.inr ⟨e1, Or.inl (by omega)⟩) hV⟩
    · rw [if_neg e]
      have e1 : ¬ lf c = lf s := fun q => e ((nI_eqI (b1 c) (b1 s)).mpr q)
      exact ⟨c, rfl, bs_take h (Or.inl (by omega)) hV⟩
theorem xm_row {pic : Int64} {k : Nat} {fr : Int32} (hfr : fr = thouses &&& ((talways ||| tnever) ^^^ (-1))) (hk : k < Wd * R) (h30 : Wd * R ≤ 30) (fk : bt fr k = true) {s : Int32} (hB : Bst (mLf ulit umayor uborn ustays Wd R thouses talways tnever tbeside pic) (vP fr (Wd * R) (fun i j => j < k ∨ (j = k ∧ (i = k ∨ i < 0)))) s) : ∀ n, n ≤ k → ∃ s', zf (xf_mend_B93 ulit umayor uborn ustays Wd R thouses talways tnever tbeside pic k) (s, nI (zpc s), nI (mLf ulit umayor uborn ustays Wd R thouses talways tnever tbeside pic s)) n = (s', nI (zpc s'), nI (mLf ulit umayor uborn ustays Wd R thouses talways tnever tbeside pic s')) ∧ Bst (mLf ulit umayor uborn ustays Wd R thouses talways tnever tbeside pic) (vP fr (Wd * R) (fun i j => j < k ∨ (j = k ∧ (i = k ∨ i < n)))) s'
  | 0, _ => ⟨s, rfl, hB⟩
  | n + 1, hn => by
    obtain ⟨s', e1, e2⟩ := xm_row hfr hk h30 fk hB n (by omega)
    have ez : zf (xf_mend_B93 ulit umayor uborn ustays Wd R thouses talways tnever tbeside pic k) (s, nI (zpc s), nI (mLf ulit umayor uborn ustays Wd R thouses talways tnever tbeside pic s)) (n + 1) = xf_mend_B93 ulit umayor uborn ustays Wd R thouses talways tnever tbeside pic k n (s', nI (zpc s'), nI (mLf ulit umayor uborn ustays Wd R thouses talways tnever tbeside pic s')) := by
      show xf_mend_B93 ulit umayor uborn ustays Wd R thouses talways tnever tbeside pic k n (zf _ _ n) = _
      rw [e1]
    rw [ez]
    unfold xf_mend_B93 zlet
    dsimp only
    rw [← hfr]
    by_cases c : ((fr >>> (nI n &&& 31)) &&& 1) = 1
    · rw [if_pos c]
      have fn : bt fr n = true := (t_bt (by omega)).mp c
      have hb := bb_n k (by omega) n (by omega)
      obtain ⟨s2, e3, e4⟩ := xm_step (V' := vP fr (Wd * R) (fun i j => j < k ∨ (j = k ∧ (i = k ∨ i < n + 1)))) (c := bb k n) (sz := 2) e2 (by rw [hb.1, if_neg (by omega)]; rfl) (fun t => by
        rw [hb.2]
        exact vP_add (by omega) hk fn fk (fun i j _ _ => by omega) t)
      refine ⟨s2, ?_, e4⟩
      rw [show ((1 : Int32) <<< (nI k &&& 31)) ||| ((1 : Int32) <<< (nI n &&& 31)) = bb k n from rfl, e3]
    · rw [if_neg c]
      refine ⟨s', rfl, bs_same e2 (vP_same (fun i j _ _ f1 _ => ?_))⟩
      constructor
      · rintro (z | ⟨z1, z2 | z2⟩)
        · exact Or.inl z
        · exact Or.inr ⟨z1, Or.inl z2⟩
        · by_cases w : i = n
          · subst w; exact absurd ((t_bt (by omega)).mpr f1) c
          · exact Or.inr ⟨z1, Or.inr (by omega)⟩
      · omega
theorem xm_all {pic : Int64} {fr : Int32} (hfr : fr = thouses &&& ((talways ||| tnever) ^^^ (-1))) (h30 : Wd * R ≤ 30) {s : Int32} (hB : Bst (mLf ulit umayor uborn ustays Wd R thouses talways tnever tbeside pic) (vP fr (Wd * R) (fun i j => j < 0)) s) : ∀ n, n ≤ Wd * R → ∃ s', zf (xf_mend_B50 ulit umayor uborn ustays Wd R thouses talways tnever tbeside pic) (s, nI (zpc s), nI (mLf ulit umayor uborn ustays Wd R thouses talways tnever tbeside pic s)) n = (s', nI (zpc s'), nI (mLf ulit umayor uborn ustays Wd R thouses talways tnever tbeside pic s')) ∧ Bst (mLf ulit umayor uborn ustays Wd R thouses talways tnever tbeside pic) (vP fr (Wd * R) (fun i j => j < n)) s'
  | 0, _ => ⟨s, rfl, hB⟩
  | n + 1, hn => by
    obtain ⟨s', e1, e2⟩ := xm_all hfr h30 hB n (by omega)
    have ez : zf (xf_mend_B50 ulit umayor uborn ustays Wd R thouses talways tnever tbeside pic) (s, nI (zpc s), nI (mLf ulit umayor uborn ustays Wd R thouses talways tnever tbeside pic s)) (n + 1) = xf_mend_B50 ulit umayor uborn ustays Wd R thouses talways tnever tbeside pic n (s', nI (zpc s'), nI (mLf ulit umayor uborn ustays Wd R thouses talways tnever tbeside pic s')) := by
      show xf_mend_B50 ulit umayor uborn ustays Wd R thouses talways tnever tbeside pic n (zf _ _ n) = _
      rw [e1]
    rw [ez]
    unfold xf_mend_B50 zlet
    dsimp only
    rw [← hfr]
    by_cases c : ((fr >>> (nI n &&& 31)) &&& 1) = 0
    · rw [if_pos c]
      refine ⟨s', rfl, bs_same e2 (vP_same (fun i j _ _ _ f2 => ?_))⟩
      constructor
      · intro z
        by_cases w : j = n
        · subst w
          have := (t_bt (show j < 32 by omega)).mpr f2
          rw [c] at this
          exact absurd this (by decide)
        · omega
      · omega
    · rw [if_neg c]
      have fn : bt fr n = true := (t_bt (by omega)).mp ((z_b01 _).resolve_left c)
      have hb := bb_n n (by omega) n (by omega)
      obtain ⟨s2, e3, e4⟩ := xm_step (V' := vP fr (Wd * R) (fun i j => j < n ∨ (j = n ∧ (i = n ∨ i < 0)))) (c := bb n n) (sz := 1) e2 (by rw [hb.1, if_pos rfl]; rfl) (vP_add (Nat.le_refl _) (by omega) fn fn (fun i j _ _ => by omega))
      obtain ⟨s3, e5, e6⟩ := xm_row hfr (show n < Wd * R by omega) h30 fn e4 n (Nat.le_refl _)
      refine ⟨s3, ?_, bs_same e6 (vP_same (fun i j _ _ _ _ => by omega))⟩
      rw [← bb_s n (by omega), e3]
      unfold xf_mend_L93
      rw [e5]
theorem rr_mend {bs bm lf0 : Int32} {pic : Int64} {what : Int32} (h : pH a Wd R nr ulit umayor unight uoil uborn ustays useen thouses talways tnever tbeside) (h30 : Wd * R ≤ 30) (hsub : talways &&& thouses = talways) (hN : ∀ i, i < 32 → bt thouses i = true → i < Wd * R) : (xf_mend bs bm lf0 ulit umayor uborn ustays Wd R thouses talways tnever tbeside pic what).1 = (mf_mend a b Wd R pic what).1 ∧ (xf_mend bs bm lf0 ulit umayor uborn ustays Wd R thouses talways tnever tbeside pic what).2.1 = (mf_mend a b Wd R pic what).2.1 := by
  have e1 : xf_isIn what.toInt64 0 1 = true ↔ (¬ what < 0 ∧ ¬ 1 < what) := r_in2 (x := what) (N := 1) (by decide)
  have hlf : ∀ s, _ := fun s => mLf_m (b := b) (pic := pic) (s := s) h h30 hsub hN
  have hf : mf_free a = thouses &&& ((talways ||| tnever) ^^^ (-1)) := r_free h.1
  have hB0 : ∀ (fr : Int32) (P : Nat → Nat → Prop), (∀ i j, i ≤ j → ¬ P i j) → Bst (mLf ulit umayor uborn ustays Wd R thouses talways tnever tbeside pic) (vP fr (Wd * R) P) 0 := fun fr P hP => by
    refine ⟨Or.inl rfl, fun t ht q => ?_⟩
    rcases ht with z | ⟨i, j, z1, _, _, _, z, _⟩
    · subst z
      rcases q with q | ⟨_, q | ⟨_, q⟩⟩
      · omega
      · omega
      · exact Int32.lt_irrefl q
    · exact hP i j z1 z
  obtain ⟨sm, m1, m2⟩ := mm_all hlf (by omega) (hB0 (mf_free a) _ (fun i j _ => by omega)) (Wd * R) (Nat.le_refl _)
  obtain ⟨sx, x1, x2⟩ := xm_all (fr := mf_free a) hf h30 (hB0 (mf_free a) _ (fun i j _ => by omega)) (Wd * R) (Nat.le_refl _)
  have es : sm = sx := bs_u m2 x2 (vP_same (fun i j _ _ _ _ => by omega))
  subst es
  have em0 := hlf 0
  rw [Int32.xor_zero] at em0
  unfold xf_mend mf_mend zlet mf_mend_L79 xf_mend_L50
  rw [r_pict]
  dsimp only
  by_cases c : mf_isFrom pic 0 1073741823 = true
  · rw [if_pos c, if_pos c]
    by_cases d : what < 0
    · rw [if_pos d, if_neg (fun q => (e1.mp q).1 d)]; exact ⟨rfl, rfl⟩
    · rw [if_neg d]
      by_cases e : what ≤ 1
      · rw [if_pos e, if_pos (e1.mpr ⟨d, Int32.not_lt.mpr e⟩), em0]
        have ex : xf_mends bs bm (-1) ulit umayor uborn ustays Wd R thouses talways tnever tbeside 0 0 pic = (0, nI (zpc 0), nI (mLf ulit umayor uborn ustays Wd R thouses talways tnever tbeside pic 0)) := by
          unfold xf_mends
          rw [if_pos (by decide), zpc_0]
          rfl
        rw [ex]
        dsimp only
        rw [x1]
        rw [zpc_0] at m1
        rw [m1]
        dsimp only
        by_cases f : what = 0
        · rw [if_pos f, if_pos f]; exact ⟨rfl, rfl⟩
        · rw [if_neg f, if_neg f]; exact ⟨rfl, rfl⟩
      · rw [if_neg e, if_neg (fun q => (e1.mp q).2 (Int32.not_le.mp e))]; exact ⟨rfl, rfl⟩
  · rw [if_neg c, if_neg c]; exact ⟨rfl, rfl⟩
end R13
