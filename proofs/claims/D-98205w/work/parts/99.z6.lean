/-! r19: the least ancestor, the first still -/
theorem lN_or (x y : Nat) : lN x ||| lN y = lN (x ||| y) := Int64.toBitVec_inj.mp (BitVec.eq_of_getLsbD_eq fun i hi => by
  show (BitVec.ofNat 64 x ||| BitVec.ofNat 64 y).getLsbD i = (BitVec.ofNat 64 (x ||| y)).getLsbD i
  rw [BitVec.getLsbD_or, BitVec.getLsbD_ofNat, BitVec.getLsbD_ofNat, BitVec.getLsbD_ofNat, Nat.testBit_or, decide_eq_true hi, Bool.true_and, Bool.true_and, Bool.true_and])
theorem nI_or (x y : Nat) : nI x ||| nI y = nI (x ||| y) := Int32.toBitVec_inj.mp (BitVec.eq_of_getLsbD_eq fun i hi => by
  show (BitVec.ofNat 32 x ||| BitVec.ofNat 32 y).getLsbD i = (BitVec.ofNat 32 (x ||| y)).getLsbD i
  rw [BitVec.getLsbD_or, BitVec.getLsbD_ofNat, BitVec.getLsbD_ofNat, BitVec.getLsbD_ofNat, Nat.testBit_or, decide_eq_true hi, Bool.true_and, Bool.true_and, Bool.true_and])
theorem sh_64 : ∀ v, v < 32 → ∀ m, m < 26 → (nI v).toInt64 <<< ((nI m).toInt64 &&& 63) = lN (v * 2 ^ m) := by decide +kernel
theorem sh_32 : ∀ v, v < 32 → ∀ m, m < 26 → (nI v) <<< ((nI m) &&& 31) = nI (v * 2 ^ m) := by decide +kernel
theorem nI_64 {n : Nat} (h : n < 2 ^ 31) : (nI n).toInt64 = lN n := by
  apply Int64.toInt_inj.mp
  rw [Int32.toInt_toInt64, lN_toInt h]
  exact nI_toInt h
theorem tot_lt {a : Nat → Int32} {Wd R : Nat} {still : Bool} (hN : zpw Wd ≤ 32) (hR0 : 1 ≤ R) (hR6 : R ≤ 6) : mTot a Wd R still < 2 ^ 60 := by
  have h1 : ∀ i, zf (fun j s => s + (if mGd a Wd still i j 0 (R - 1) = true then mWy a Wd still (R - 1) i j else 0)) 0 (zpw Wd) ≤ zpw Wd * 33554432 := fun i => sm_le (f := fun j => if mGd a Wd still i j 0 (R - 1) = true then mWy a Wd still (R - 1) i j else 0) _ (fun j _ => by
    split
    · exact Nat.le_trans (wN_le hN _ _ _) (w32 _ (by omega))
    · exact Nat.zero_le _)
  have h2 := sm_le (f := fun i => zf (fun j s => s + (if mGd a Wd still i j 0 (R - 1) = true then mWy a Wd still (R - 1) i j else 0)) 0 (zpw Wd)) (M := 32 * 33554432) (zpw Wd) (fun i _ => Nat.le_trans (h1 i) (Nat.mul_le_mul_right _ hN))
  have h3 : mTot a Wd R still ≤ zpw Wd * (32 * 33554432) := h2
  omega
theorem lN_ne {n : Nat} (h : 0 < n) (h2 : n < 2 ^ 60) : ¬ lN n = 0 := fun q => by
  have e := congrArg (fun z : Int64 => z.toBitVec.toNat) q
  have e : n % 2 ^ 64 = 0 := e
  rw [Nat.mod_eq_of_lt (by omega)] at e
  omega
section R19
variable {a b th cb : Nat → Int32} {Wd R nr nc : Nat} {ulit umayor unight uoil : Int32} {uborn ustays useen : Nat → Int32} {thouses talways tnever : Int32} {tbeside tleast tmost : Nat → Int32} {tring : Bool} {target : Int32} {self : Bool} {t1 : Nat → Nat → Int64}
/-- a row above that will do -/
def cX (a : Nat → Int32) (Wd : Nat) (self : Bool) (y v bl s : Nat) : Prop := 0 < mWy a Wd self y s v ∧ mGd a Wd self s v bl y = true
def tOKx (a : Nat → Int32) (Wd R : Nat) (self : Bool) (t1 : Nat → Nat → Int64) : Prop := ∀ y i j, y < R → i < zpw Wd → j < zpw Wd → t1 y (32 * i + j) = lN (mWy a Wd self y i j)
theorem x79 {y v bl : Nat} {pic : Int64} {own fa : Int32} {p2 p3 : Int32} (hS : xSame a umayor uborn ustays Wd R thouses talways tnever tring target self) (hT : tOKx a Wd R self t1) (hN : zpw Wd ≤ 32) (hR6 : R ≤ 6) (hy : y < R) (hv : v < zpw Wd) (d : Nat × Int32 × Int32) : ∀ n s, zpw Wd - s < n → s ≤ zpw Wd → (∀ j, j < s → ¬ cX a Wd self y v bl j) → (∃ k, k < zpw Wd ∧ cX a Wd self y v bl k ∧ (∀ j, j < k → ¬ cX a Wd self y v bl j) ∧ (zw (xf_least_B79 umayor uborn ustays Wd thouses talways tnever tring target self t1 (y + 1, pic, own, nI bl) (v, p2, p3)) d n (s, fa, -1)).2 = (nI k, nI v)) ∨ ((∀ j, j < zpw Wd → ¬ cX a Wd self y v bl j) ∧ (zw (xf_least_B79 umayor uborn ustays Wd thouses talways tnever tring target self t1 (y + 1, pic, own, nI bl) (v, p2, p3)) d n (s, fa, -1)).2 = (fa, -1)) := by
  intro n
  induction n with
  | zero => intro s h; exact absurd h (Nat.not_lt_zero _)
  | succ n ih =>
    intro s h hs hn
    by_cases c : zpw Wd ≤ s
    · refine Or.inr ⟨fun j hj => hn j (by omega), ?_⟩
      rw [zw_r (show xf_least_B79 umayor uborn ustays Wd thouses talways tnever tring target self t1 (y + 1, pic, own, nI bl) (v, p2, p3) (s, fa, -1) = .inr (s, fa, -1) by unfold xf_least_B79; dsimp only; rw [if_pos c])]
    · have hs2 : s < zpw Wd := by omega
      have hl := wN_lt (F := mFr a Wd) (Gd := mGd a Wd self) (a := s) (b := v) hN (show y < 6 by omega)
      have ht := hT y s v hy hs2 hv
      have hf := (hS y hy).2 s v bl
      have nx : ¬ cX a Wd self y v bl s → xf_least_B79 umayor uborn ustays Wd thouses talways tnever tring target self t1 (y + 1, pic, own, nI bl) (v, p2, p3) (s, fa, -1) = .inl (s + 1, fa, -1) := fun q => by
        unfold xf_least_B79
        dsimp only
        rw [if_neg c, if_neg (by decide), Nat.add_sub_cancel, ht, hf]
        by_cases e : lN (mWy a Wd self y s v) = 0
        · rw [if_pos e]
        · rw [if_neg e, if_neg (fun z => q ⟨lN_0 e, z⟩)]
      by_cases q : cX a Wd self y v bl s
      · refine Or.inl ⟨s, hs2, q, hn, ?_⟩
        have e1 : xf_least_B79 umayor uborn ustays Wd thouses talways tnever tring target self t1 (y + 1, pic, own, nI bl) (v, p2, p3) (s, fa, -1) = .inl (s + 1, nI s, nI v) := by
          unfold xf_least_B79
          dsimp only
          rw [if_neg c, if_neg (by decide), Nat.add_sub_cancel, ht, hf, if_neg (show ¬ lN (mWy a Wd self y s v) = 0 from fun z => Nat.ne_of_gt q.1 ((lN_eq hl (show 0 < 2 ^ 31 by decide)).mp (show lN _ = lN 0 from z))), if_pos q.2]
        rw [zw_l e1]
        obtain ⟨n', rfl⟩ : ∃ n', n = n' + 1 := ⟨n - 1, by omega⟩
        have e2 : xf_least_B79 umayor uborn ustays Wd thouses talways tnever tring target self t1 (y + 1, pic, own, nI bl) (v, p2, p3) (s + 1, nI s, nI v) = .inr (s + 1, nI s, nI v) := by
          unfold xf_least_B79
          dsimp only
          split
          · rfl
          · rw [if_pos (Int32.not_lt.mp (nI_pos (by omega)))]
        rw [zw_r e2]
      · rw [zw_l (nx q)]
        exact ih (s + 1) (by omega) (by omega) (fun j hj => by
          by_cases z : j = s
          · rw [z]; exact q
          · exact hn j (by omega))
/-- which rows are asked -/
def pO (own : Int32) (v : Nat) : Prop := own < 0 ∨ (¬ own < 0 ∧ nI v = own)
theorem x50 {y bl : Nat} {pic : Int64} {own : Int32} (hS : xSame a umayor uborn ustays Wd R thouses talways tnever tring target self) (hT : tOKx a Wd R self t1) (hN : zpw Wd ≤ 32) (hR6 : R ≤ 6) (hy : y < R) (d : Nat × Int32 × Int32) : ∀ n v, zpw Wd - v < n → v ≤ zpw Wd → (∀ j, j < v → ¬ (pO own j ∧ ∃ k, k < zpw Wd ∧ cX a Wd self y j bl k)) → (∃ v0 k, v0 < zpw Wd ∧ pO own v0 ∧ (∀ j, j < v0 → ¬ (pO own j ∧ ∃ k, k < zpw Wd ∧ cX a Wd self y j bl k)) ∧ k < zpw Wd ∧ cX a Wd self y v0 bl k ∧ (∀ j, j < k → ¬ cX a Wd self y v0 bl j) ∧ (zw (xf_least_B50 umayor uborn ustays Wd thouses talways tnever tring target self t1 (y + 1, pic, own, nI bl)) d n (v, -1, -1)).2 = (nI k, nI v0)) ∨ ((∀ j, j < zpw Wd → ¬ (pO own j ∧ ∃ k, k < zpw Wd ∧ cX a Wd self y j bl k)) ∧ (zw (xf_least_B50 umayor uborn ustays Wd thouses talways tnever tring target self t1 (y + 1, pic, own, nI bl)) d n (v, -1, -1)).2 = (-1, -1)) := by
  have eb : xf_least_L79b umayor uborn ustays Wd thouses talways tnever tring target self t1 = xf_least_L79 umayor uborn ustays Wd thouses talways tnever tring target self t1 := rfl
  intro n
  induction n with
  | zero => intro v h; exact absurd h (Nat.not_lt_zero _)
  | succ n ih =>
    intro v h hv hn
    by_cases c : zpw Wd ≤ v
    · refine Or.inr ⟨fun j hj => hn j (by omega), ?_⟩
      rw [zw_r (show xf_least_B50 umayor uborn ustays Wd thouses talways tnever tring target self t1 (y + 1, pic, own, nI bl) (v, -1, -1) = .inr (v, -1, -1) by unfold xf_least_B50; dsimp only; rw [if_pos c])]
    · have hv2 : v < zpw Wd := by omega
      have e0 : pO own v → xf_least_B50 umayor uborn ustays Wd thouses talways tnever tring target self t1 (y + 1, pic, own, nI bl) (v, -1, -1) = .inl (v + 1, (xf_least_L79 umayor uborn ustays Wd thouses talways tnever tring target self t1 (y + 1, pic, own, nI bl) (v, -1, -1) (0, -1, -1)).2.1, (xf_least_L79 umayor uborn ustays Wd thouses talways tnever tring target self t1 (y + 1, pic, own, nI bl) (v, -1, -1) (0, -1, -1)).2.2) := fun q => by
        unfold xf_least_B50 zlet
        dsimp only
        rw [if_neg c, if_neg (by decide), eb]
        rcases q with q | ⟨q1, q2⟩
        · rw [if_pos q]
        · rw [if_neg q1, if_pos q2]
      have e9 : ¬ pO own v → xf_least_B50 umayor uborn ustays Wd thouses talways tnever tring target self t1 (y + 1, pic, own, nI bl) (v, -1, -1) = .inl (v + 1, -1, -1) := fun q => by
        unfold xf_least_B50 zlet
        dsimp only
        rw [if_neg c, if_neg (by decide), if_neg (fun z => q (Or.inl z)), if_neg (fun z => q (Or.inr ⟨fun w => q (Or.inl w), z⟩))]
      by_cases p : pO own v
      · have e1 := e0 p
        unfold xf_least_L79 at e1
        rcases x79 (pic := pic) (own := own) (fa := -1) (p2 := -1) (p3 := -1) (bl := bl) hS hT hN hR6 hy hv2 (0, -1, -1) ((zpw Wd - 0) + 1) 0 (by omega) (by omega) (fun j hj => absurd hj (Nat.not_lt_zero _)) with ⟨k, k1, k2, k3, k4⟩ | ⟨k1, k2⟩
        · refine Or.inl ⟨v, k, hv2, p, hn, k1, k2, k3, ?_⟩
          rw [k4] at e1
          rw [zw_l e1]
          obtain ⟨n', rfl⟩ : ∃ n', n = n' + 1 := ⟨n - 1, by omega⟩
          have e2 : xf_least_B50 umayor uborn ustays Wd thouses talways tnever tring target self t1 (y + 1, pic, own, nI bl) (v + 1, nI k, nI v) = .inr (v + 1, nI k, nI v) := by
            unfold xf_least_B50
            dsimp only
            split
            · rfl
            · rw [if_pos (Int32.not_lt.mp (nI_pos (by omega)))]
          rw [zw_r e2]
        · rw [k2] at e1
          rw [zw_l e1]
          exact ih (v + 1) (by omega) (by omega) (fun j hj => by
            by_cases z : j = v
            · rw [z]; exact fun q => q.2.elim fun k q => k1 k q.1 q.2
            · exact hn j (by omega))
      · rw [zw_l (e9 p)]
        exact ih (v + 1) (by omega) (by omega) (fun j hj => by
          by_cases z : j = v
          · rw [z]; exact fun q => p q.1
          · exact hn j (by omega))
theorem ab_c {y v bl s : Nat} (hN : zpw Wd ≤ 32) (hB : pB (zpw Wd) R cb (mWy a Wd self)) (hy : y < R) (hs : s < 32) (hv : v < 32) : abC a cb Wd v (nI bl) y self s ↔ s < zpw Wd ∧ v < zpw Wd ∧ cX a Wd self y v bl s := by
  unfold abC cX
  rw [pB_at hB hy hs hv]
  exact ⟨fun q => ⟨q.1.1, q.1.2.1, q.1.2.2, q.2⟩, fun q => ⟨⟨q.1, q.2.1, q.2.2.1⟩, q.2.2.2⟩⟩
theorem abL_le {y : Nat} (hN : zpw Wd ≤ 32) : abL Wd y ≤ 32 := by
  unfold abL
  split
  · decide
  · exact hN
theorem ab_eq {y v bl k : Nat} (hN : zpw Wd ≤ 32) (hB : pB (zpw Wd) R cb (mWy a Wd self)) (hy : y < R) (hk : k < zpw Wd) (hv : v < zpw Wd) (hc : cX a Wd self y v bl k) (hm : ∀ j, j < k → ¬ cX a Wd self y v bl j) : mf_aboveOf a cb Wd v (nI bl) y self = nI k := by
  have hl := abL_le (Wd := Wd) (y := y) hN
  rcases r_above (a := a) (cb := cb) (Wd := Wd) (row := v) (y := y) (undr := nI bl) (still := self) hN with ⟨k', h1, h2, h3, h4⟩ | ⟨h1, _⟩
  · have q := (ab_c hN hB hy (by omega) (by omega)).mp h2
    have : k' = k := by
      rcases Nat.lt_trichotomy k' k with z | z | z
      · exact absurd q.2.2 (hm k' z)
      · exact z
      · exact absurd ((ab_c hN hB hy (by omega) (by omega)).mpr ⟨hk, hv, hc⟩) (h3 k z)
    rw [h4, this]
  · exact absurd ((ab_c hN hB hy (by omega) (by omega)).mpr ⟨hk, hv, hc⟩) (h1 k (w_lim hk hc.1))
theorem ab_no {y v bl : Nat} (hN : zpw Wd ≤ 32) (hB : pB (zpw Wd) R cb (mWy a Wd self)) (hy : y < R) (hv : v < 32) (h : ¬ ∃ k, k < zpw Wd ∧ cX a Wd self y v bl k) : mf_aboveOf a cb Wd v (nI bl) y self = -1 := by
  have hl := abL_le (Wd := Wd) (y := y) hN
  rcases r_above (a := a) (cb := cb) (Wd := Wd) (row := v) (y := y) (undr := nI bl) (still := self) hN with ⟨k', h1, h2, h3, h4⟩ | ⟨_, h2⟩
  · have q := (ab_c hN hB hy (by omega) hv).mp h2
    exact absurd ⟨k', q.1, q.2.2⟩ h
  · exact h2
theorem pw_lt {v y : Nat} (hR6 : R ≤ 6) (hW5 : Wd ≤ 5) (hy : y < R) (hv : v < zpw Wd) : v * 2 ^ (Wd * y) < 2 ^ 30 ∧ Wd * y < 26 := by
  have h1 : Wd * (y + 1) ≤ 5 * 6 := Nat.mul_le_mul hW5 (by omega)
  have h2 : Wd * y ≤ 5 * 5 := Nat.mul_le_mul hW5 (by omega)
  refine ⟨?_, by omega⟩
  have h3 : v * 2 ^ (Wd * y) < 2 ^ Wd * 2 ^ (Wd * y) := Nat.mul_lt_mul_of_pos_right hv (Nat.two_pow_pos _)
  rw [← Nat.pow_add] at h3
  exact Nat.lt_of_lt_of_le h3 (Nat.pow_le_pow_right (by decide) (by rw [Nat.mul_add] at h1; omega))
/-- downward -/
theorem lst_down (hS : xSame a umayor uborn ustays Wd R thouses talways tnever tring target self) (hT : tOKx a Wd R self t1) (hB : pB (zpw Wd) R cb (mWy a Wd self)) (hW5 : Wd ≤ 5) (hR6 : R ≤ 6) (d : (Nat × Int64 × Int32 × Int32) ⊕ (Int64 × (Nat → Nat → Int64))) (dm : Int32 × Int32 × Nat × Nat) : ∀ y n n' I k v, y < R → y < n → y < n' → I < 2 ^ 30 → k < zpw Wd → v < zpw Wd → 0 < mWy a Wd self y k v → ∃ I' o b, I' < 2 ^ 30 ∧ zw (xf_least_B36 umayor uborn ustays Wd R thouses talways tnever tring target self t1) d n (y, lN I, nI k, nI v) = .inl (0, lN I', o, b) ∧ (zw (mf_least_B66 a cb Wd R self) dm n' (nI I, nI k, v, y)).1 = nI I' := by
  have hN := zpw_le Wd (by omega)
  intro y
  induction y with
  | zero =>
    intro n n' I k v hy hn hn' hI hk hv hw
    obtain ⟨n, rfl⟩ : ∃ m, n = m + 1 := ⟨n - 1, by omega⟩
    obtain ⟨n', rfl⟩ : ∃ m, n' = m + 1 := ⟨n' - 1, by omega⟩
    refine ⟨I, nI k, nI v, hI, zw_r ?_, ?_⟩
    · unfold xf_least_B36
      dsimp only
      rw [if_pos (by decide)]
    · rw [zw_r (show mf_least_B66 a cb Wd R self (nI I, nI k, v, 0) = .inr (nI I, nI k, v, 0) by unfold mf_least_B66; rw [if_pos rfl])]
  | succ y ih =>
    intro n n' I k v hy hn hn' hI hk hv hw
    obtain ⟨n, rfl⟩ : ∃ m, n = m + 1 := ⟨n - 1, by omega⟩
    obtain ⟨n', rfl⟩ : ∃ m, n' = m + 1 := ⟨n' - 1, by omega⟩
    obtain ⟨i, hi, g1, g2⟩ := w_up hw
    have hp := pw_lt (v := k) hR6 hW5 (show y < R by omega) hk
    have nk : ¬ nI k < 0 := nI_pos (by omega)
    rcases x50 (bl := v) (pic := lN I) (own := nI k) hS hT hN hR6 (show y < R by omega) (0, -1, -1) ((zpw Wd - 0) + 1) 0 (by omega) (by omega) (fun j hj => absurd hj (Nat.not_lt_zero _)) with ⟨v0, k2, q1, q2, q3, q4, q5, q6, q7⟩ | ⟨q1, _⟩
    · have ev : v0 = k := by
        rcases q2 with z | ⟨_, z⟩
        · exact absurd z nk
        · exact (nI_eqI (by omega) (by omega)).mp z
      subst ev
      have hab := ab_eq (bl := v) hN hB (show y < R by omega) q4 q1 q5 q6
      have hI2 : I ||| v0 * 2 ^ (Wd * y) < 2 ^ 30 := Nat.or_lt_two_pow hI hp.1
      obtain ⟨I', o, b', r1, r2, r3⟩ := ih n n' (I ||| v0 * 2 ^ (Wd * y)) k2 v0 (by omega) (by omega) (by omega) hI2 q4 hk q5.1
      refine ⟨I', o, b', r1, ?_, ?_⟩
      · have e1 : xf_least_B36 umayor uborn ustays Wd R thouses talways tnever tring target self t1 (y + 1, lN I, nI v0, nI v) = .inl (y, lN (I ||| v0 * 2 ^ (Wd * y)), nI k2, nI v0) := by
          unfold xf_least_B36 zlet xf_least_L50
          dsimp only
          rw [show nI (y + 1) - 1 = nI y from (by rw [show (1 : Int32) = nI 1 by decide, pk_sub (by omega), Nat.add_sub_cancel]), if_neg (nI_pos (show y < 2 ^ 31 by omega)), q7]
          dsimp only
          rw [if_pos (Int32.not_lt.mp nk), Nat.add_sub_cancel, sh_64 v0 (by omega) _ hp.2, lN_or]
        rw [zw_l e1]; exact r2
      · have e1 : mf_least_B66 a cb Wd R self (nI I, nI v0, v, y + 1) = .inl (nI (I ||| v0 * 2 ^ (Wd * y)), nI k2, v0, y) := by
          unfold mf_least_B66
          dsimp only
          rw [if_neg (Nat.succ_ne_zero y), Nat.add_sub_cancel, nI_clamp (show v0 < 2 ^ 31 by omega), hab, sh_32 v0 (by omega) _ hp.2, nI_or]
        rw [zw_l e1]; exact r3
    · exact absurd ⟨Or.inr ⟨nk, rfl⟩, i, hi, g2, g1⟩ (q1 k hk)
/-- the last row -/
theorem lst_17 {v0 : Nat} {k : Int32} (hk : ¬ k = -1) (h0 : ∀ j, j < v0 → mf_aboveOf a cb Wd j 0 (R - 1) self = -1) (h1 : mf_aboveOf a cb Wd v0 0 (R - 1) self = k) (d : Int32 × Nat) : ∀ m n r, r + m = v0 → m + 1 < n → zw (mf_least_B17 a cb Wd R self) d n (-1, r) = (k, v0)
  | 0, n, r, hr, hn => by
    have e : r = v0 := by omega
    subst e
    obtain ⟨n, rfl⟩ : ∃ m, n = m + 2 := ⟨n - 2, by omega⟩
    have e1 : mf_least_B17 a cb Wd R self (-1, r) = .inl (k, r) := by
      unfold mf_least_B17
      dsimp only
      rw [if_pos rfl, h1, if_neg hk]
    have e2 : mf_least_B17 a cb Wd R self (k, r) = .inr (k, r) := by
      unfold mf_least_B17
      dsimp only
      rw [if_neg hk]
    rw [zw_l e1, zw_r e2]
  | m + 1, n, r, hr, hn => by
    obtain ⟨n, rfl⟩ : ∃ m, n = m + 1 := ⟨n - 1, by omega⟩
    have e1 : mf_least_B17 a cb Wd R self (-1, r) = .inl (-1, r + 1) := by
      unfold mf_least_B17
      dsimp only
      rw [if_pos rfl, h0 r (by omega), if_pos rfl]
    rw [zw_l e1]
    exact lst_17 hk h0 h1 d m n (r + 1) (by omega) (by omega)
theorem r_least {xw : Nat → Nat → Int64} (hS : xSame a umayor uborn ustays Wd R thouses talways tnever tring target self) (hB : pB (zpw Wd) R cb (mWy a Wd self)) (hW5 : Wd ≤ 5) (hR0 : 1 ≤ R) (hR6 : R ≤ 6) : (mTot a Wd R self = 0 ∧ (xf_least xw umayor uborn ustays Wd R thouses talways tnever tring target self).1 = -1) ∨ (0 < mTot a Wd R self ∧ (xf_least xw umayor uborn ustays Wd R thouses talways tnever tring target self).1 = mf_least a cb Wd R self ∧ ¬ mf_least a cb Wd R self < 0) := by
  have hN := zpw_le Wd (by omega)
  have hT : tOKx a Wd R self (xf_fill xw umayor uborn ustays Wd R thouses talways tnever tring target self) := r_fill hS hN hR6
  obtain ⟨y, hy⟩ : ∃ y, R = y + 1 := ⟨R - 1, by omega⟩
  unfold xf_least zlet xf_least_L36
  dsimp only
  generalize xf_fill xw umayor uborn ustays Wd R thouses talways tnever tring target self = t1 at hT ⊢
  have hR1 : nI R - 1 = nI (R - 1) := by rw [show (1 : Int32) = nI 1 by decide, pk_sub hR0]
  have eR : (R, (0 : Int64), (-1 : Int32), (0 : Int32)) = (R - 1 + 1, lN 0, -1, nI 0) := by rw [Nat.sub_add_cancel hR0]; rfl
  have q := x50 (bl := 0) (pic := lN 0) (own := -1) hS hT hN hR6 (show R - 1 < R by omega) (0, -1, -1) ((zpw Wd - 0) + 1) 0 (by omega) (by omega) (fun j hj => absurd hj (Nat.not_lt_zero _))
  rw [← eR] at q
  have ez : ∀ n d, zw (xf_least_B36 umayor uborn ustays Wd R thouses talways tnever tring target self t1) d (n + 1) (R, 0, -1, 0) = zw (xf_least_B36 umayor uborn ustays Wd R thouses talways tnever tring target self t1) d (n + 1) (R, 0, -1, 0) := fun _ _ => rfl
  rcases q with ⟨v0, k, q1, q2, q3, q4, q5, q6, q7⟩ | ⟨q1, q2⟩
  · refine Or.inr ?_
    have hp := pw_lt (v := v0) hR6 hW5 (show R - 1 < R by omega) q1
    have tp : 0 < mTot a Wd R self := by
      refine sm_at _ k q4 (sm_at _ v0 q1 ?_)
      rw [if_pos q5.2]
      exact q5.1
    have e1 : xf_least_B36 umayor uborn ustays Wd R thouses talways tnever tring target self t1 (R, 0, -1, 0) = .inl (R - 1, lN (v0 * 2 ^ (Wd * (R - 1))), nI k, nI v0) := by
      unfold xf_least_B36 zlet xf_least_L50
      dsimp only
      rw [hR1, if_neg (nI_pos (show R - 1 < 2 ^ 31 by omega)), q7]
      dsimp only
      rw [if_pos (Int32.not_lt.mp (nI_pos (by omega))), sh_64 v0 (by omega) _ hp.2, show (0 : Int64) = lN 0 from rfl, lN_or, Nat.zero_or]
    have hab := ab_eq (bl := 0) hN hB (show R - 1 < R by omega) q4 q1 q5 q6
    have hk1 : ¬ nI k = -1 := fun z => by
      have := nI_pos (n := k) (by omega)
      rw [z] at this
      exact this (by decide)
    have l17 := lst_17 (R := R) (self := self) (a := a) (cb := cb) (Wd := Wd) hk1 (fun j hj => ab_no (bl := 0) hN hB (show R - 1 < R by omega) (by omega) (fun ⟨k', z1, z2⟩ => q3 j hj ⟨Or.inl (by decide), k', z1, z2⟩)) hab (-1, 0) v0 ((32 - 0 + (if (-1 : Int32) = -1 then 1 else 0)) + 1) 0 (by omega) (by rw [if_pos rfl]; omega)
    obtain ⟨I', o, b', r1, r2, r3⟩ := lst_down hS hT hB hW5 hR6 (.inl (R, 0, -1, 0)) (nI (v0 * 2 ^ (Wd * (R - 1))), nI k, v0, R - 1) (R - 1) R ((R - 1) + 1) (v0 * 2 ^ (Wd * (R - 1))) k v0 (by omega) (by omega) (by omega) hp.1 q4 q1 q5.1
    have em : mf_least a cb Wd R self = lN I' := by
      unfold mf_least zlet mf_least_L17 mf_least_L66
      dsimp only
      rw [l17]
      dsimp only
      rw [sh_32 v0 (by omega) _ hp.2, r3, nI_64 (by omega)]
    refine ⟨tp, ?_, ?_⟩
    · rw [zw_l e1, r2, em]; rfl
    · rw [em, show (0 : Int64) = lN 0 from rfl, lN_lt (by omega) (by decide)]
      omega
  · refine Or.inl ⟨?_, ?_⟩
    · rcases Nat.eq_zero_or_pos (mTot a Wd R self) with z | z
      · exact z
      · obtain ⟨i, j, hi, hj, g1, g2⟩ := tot_pos z
        exact absurd ⟨Or.inl (by decide), i, hi, g2, g1⟩ (q1 j hj)
    · have e1 : xf_least_B36 umayor uborn ustays Wd R thouses talways tnever tring target self t1 (R, 0, -1, 0) = .inr (.inr (-1, t1)) := by
        unfold xf_least_B36 zlet xf_least_L50
        dsimp only
        rw [hR1, if_neg (nI_pos (show R - 1 < 2 ^ 31 by omega)), q2]
        dsimp only
        rw [if_neg (by decide)]
      rw [zw_r e1]; rfl
theorem rr_ancestor {xw : Nat → Nat → Int64} {ways further : Nat → Int64} {cb : Nat → Int32} (h : pH a Wd R nr ulit umayor unight uoil uborn ustays useen thouses talways tnever tbeside) (hj : a 9 = 1 ↔ tf_joins Wd tring = true) (hW5 : Wd ≤ 5) (hR0 : 1 ≤ R) (hR6 : R ≤ 6) (hsub : talways &&& thouses = talways) (hst : thouses &&& (talways ||| tnever) = (talways ||| tnever)) : (xf_ancestor xw ulit umayor uborn ustays Wd R thouses talways tnever tring).1 = (mf_ancestor a ways further cb Wd R).1 ∧ (xf_ancestor xw ulit umayor uborn ustays Wd R thouses talways tnever tring).2.2 = (mf_ancestor a ways further cb Wd R).2.1 := by
  have hS := r_same (self := false) (target := ulit) h hj hW5 hR6 hsub hst (fun _ => rfl)
  obtain ⟨k1, k2⟩ := r_reckons (a := a) (still := false) (ways := ways) (further := further) (cb := cb) (zpw_1 Wd (by omega)) (zpw_le Wd (by omega)) hR0 hR6
  unfold xf_ancestor mf_ancestor zlet xf_answerLong
  dsimp only
  rw [k1]
  rcases r_least (xw := xw) hS k2 hW5 hR0 hR6 with ⟨z, e⟩ | ⟨z, e, g⟩
  · rw [z, if_pos (show lN 0 = 0 from rfl), e]; exact ⟨rfl, rfl⟩
  · rw [if_neg (lN_ne z (tot_lt (zpw_le Wd (by omega)) hR0 hR6)), e, if_neg g]; exact ⟨rfl, rfl⟩
theorem rr_firstStill {xw : Nat → Nat → Int64} {ways further : Nat → Int64} {cb : Nat → Int32} (h : pH a Wd R nr ulit umayor unight uoil uborn ustays useen thouses talways tnever tbeside) (hj : a 9 = 1 ↔ tf_joins Wd tring = true) (hW5 : Wd ≤ 5) (hR0 : 1 ≤ R) (hR6 : R ≤ 6) (hsub : talways &&& thouses = talways) (hst : thouses &&& (talways ||| tnever) = (talways ||| tnever)) : (xf_firstStill xw umayor uborn ustays Wd R thouses talways tnever tring).1 = (mf_firstStill a ways further cb Wd R).1 ∧ (xf_firstStill xw umayor uborn ustays Wd R thouses talways tnever tring).2.2 = (mf_firstStill a ways further cb Wd R).2.1 := by
  have hS := r_same (self := true) (target := 0) h hj hW5 hR6 hsub hst (fun q => by cases q)
  obtain ⟨k1, k2⟩ := r_reckons (a := a) (still := true) (ways := ways) (further := further) (cb := cb) (zpw_1 Wd (by omega)) (zpw_le Wd (by omega)) hR0 hR6
  unfold xf_firstStill mf_firstStill zlet xf_answerLong
  dsimp only
  rw [k1]
  rcases r_least (xw := xw) hS k2 hW5 hR0 hR6 with ⟨z, e⟩ | ⟨z, e, g⟩
  · rw [z, if_pos (show lN 0 = 0 from rfl), e]; exact ⟨rfl, rfl⟩
  · rw [if_neg (lN_ne z (tot_lt (zpw_le Wd (by omega)) hR0 hR6)), e, if_neg g]; exact ⟨rfl, rfl⟩
end R19
