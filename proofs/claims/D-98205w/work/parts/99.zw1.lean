/-! r26: a text's bytes and tokens on both sides -/
section R26
variable {tape text : Nat → Int32} {zs k : Nat}
def cbt (tape : Nat → Int32) (k : Nat) : Nat := (tape k &&& 255).toNatClampNeg
theorem bv8 (y : BitVec 8) : (BitVec.ofNat 32 y.toNat).signExtend 8 = y := by
  apply BitVec.eq_of_getLsbD_eq
  intro i hi
  rw [BitVec.getLsbD_signExtend]
  simp [hi, show i < 32 by omega]
theorem b_rep {x : Int32} (h : vp_nar .byte x = x) : ∃ b, b < 256 ∧ x = (nI b).toInt8.toInt32 := by
  refine ⟨x.toInt8.toBitVec.toNat, x.toInt8.toBitVec.isLt, ?_⟩
  have e : (nI x.toInt8.toBitVec.toNat).toInt8 = x.toInt8 := Int8.toBitVec_inj.mp (bv8 x.toInt8.toBitVec)
  rw [e]
  exact h.symm
theorem b_facts : ∀ b, b < 256 → ((nI b).toInt8.toInt32 &&& 255) = nI b ∧ ((¬ (nI b).toInt8.toInt32 < 97 ∧ ¬ (122 : Int32) < (nI b).toInt8.toInt32) ↔ (97 ≤ b ∧ b ≤ 122)) ∧ ((¬ (nI b).toInt8.toInt32 < 48 ∧ ¬ (57 : Int32) < (nI b).toInt8.toInt32) ↔ (48 ≤ b ∧ b ≤ 57)) ∧ (b < 128 → (nI b).toInt8.toInt32 = nI b) ∧ (128 ≤ b → (nI b).toInt8.toInt32 < 0) := by decide +kernel
theorem cb_all (hB : pBt tape) (k : Nat) : cbt tape k < 256 ∧ tape k &&& 255 = nI (cbt tape k) ∧ ((¬ tape k < 97 ∧ ¬ (122 : Int32) < tape k) ↔ (97 ≤ cbt tape k ∧ cbt tape k ≤ 122)) ∧ ((¬ tape k < 48 ∧ ¬ (57 : Int32) < tape k) ↔ (48 ≤ cbt tape k ∧ cbt tape k ≤ 57)) ∧ (cbt tape k < 128 → tape k = nI (cbt tape k)) ∧ (128 ≤ cbt tape k → tape k < 0) := by
  obtain ⟨b, hb, e⟩ := b_rep (hB k)
  obtain ⟨f1, f2, f3, f4, f5⟩ := b_facts b hb
  have ec : cbt tape k = b := by
    unfold cbt
    rw [e, f1, nI_clamp (by omega)]
  rw [ec, e]
  exact ⟨hb, f1, f2, f3, f4, f5⟩
theorem cb_eq (hB : pBt tape) {c : Nat} (hc : c < 128) : tape k = nI c ↔ cbt tape k = c := by
  obtain ⟨f0, f1, f2, f3, f4, f5⟩ := cb_all hB k
  constructor
  · intro h
    by_cases q : cbt tape k < 128
    · rw [f4 q] at h
      exact (nI_eq (by omega) (by omega)).mp h
    · have := f5 (by omega)
      rw [h] at this
      exact absurd this (nI_pos (by omega))
  · intro h
    rw [← h]
    exact f4 (by omega)
/-- the text begins as the tape does -/
def pTx (tape text : Nat → Int32) (zs : Nat) : Prop := pBt tape ∧ ∀ k, k < zs → text k = tape k
theorem by_at (h : pTx tape text zs) (k : Nat) : mf_byteAt zs text k = if zs ≤ k then -1 else nI (cbt tape k) := by
  unfold mf_byteAt
  by_cases c : zs ≤ k
  · rw [if_pos c, if_pos c]
  · rw [if_neg c, if_neg c, h.2 k (by omega), (cb_all h.1 k).2.1]
theorem by_eq (h : pTx tape text zs) {c : Nat} (hc : c < 256) : mf_byteAt zs text k = nI c ↔ k < zs ∧ cbt tape k = c := by
  have f0 := (cb_all h.1 k).1
  rw [by_at h]
  by_cases d : zs ≤ k
  · rw [if_pos d]
    constructor
    · intro q
      exact absurd (show nI c < 0 by rw [← q]; decide) (nI_pos (by omega))
    · intro q; omega
  · rw [if_neg d]
    rw [nI_eq (by omega) (by omega)]
    constructor
    · intro q; exact ⟨by omega, q⟩
    · intro q; exact q.2
theorem by_m1 (h : pTx tape text zs) : mf_byteAt zs text k = -1 ↔ zs ≤ k := by
  have f0 := (cb_all h.1 k).1
  rw [by_at h]
  by_cases d : zs ≤ k
  · rw [if_pos d]; exact ⟨fun _ => d, fun _ => rfl⟩
  · rw [if_neg d]
    exact ⟨fun q => absurd (show nI (cbt tape k) < 0 by rw [q]; decide) (nI_pos (by omega)), fun q => absurd q d⟩
theorem let_iff (hB : pBt tape) : rf_isLetter zs tape k = true ↔ k < zs ∧ 97 ≤ cbt tape k ∧ cbt tape k ≤ 122 := by
  have f := (cb_all hB k).2.2.1
  unfold rf_isLetter
  by_cases d : zs ≤ k
  · rw [if_pos d]
    exact ⟨fun q => (by cases q), fun q => by omega⟩
  · rw [if_neg d, ← f]
    by_cases c1 : tape k < 97
    · rw [if_pos c1]; exact ⟨fun q => (by cases q), fun q => absurd c1 q.2.1⟩
    · rw [if_neg c1]
      by_cases c2 : 122 < tape k
      · rw [if_pos c2]; exact ⟨fun q => (by cases q), fun q => absurd c2 q.2.2⟩
      · rw [if_neg c2]; exact ⟨fun _ => ⟨by omega, c1, c2⟩, fun _ => rfl⟩
theorem dig_iff (hB : pBt tape) : rf_isDigit zs tape k = true ↔ k < zs ∧ 48 ≤ cbt tape k ∧ cbt tape k ≤ 57 := by
  have f := (cb_all hB k).2.2.2.1
  unfold rf_isDigit
  by_cases d : zs ≤ k
  · rw [if_pos d]
    exact ⟨fun q => (by cases q), fun q => by omega⟩
  · rw [if_neg d, ← f]
    by_cases c1 : tape k < 48
    · rw [if_pos c1]; exact ⟨fun q => (by cases q), fun q => absurd c1 q.2.1⟩
    · rw [if_neg c1]
      by_cases c2 : 57 < tape k
      · rw [if_pos c2]; exact ⟨fun q => (by cases q), fun q => absurd c2 q.2.2⟩
      · rw [if_neg c2]; exact ⟨fun _ => ⟨by omega, c1, c2⟩, fun _ => rfl⟩
theorem small_iff (h : pTx tape text zs) : mf_isSmall (mf_byteAt zs text k) = true ↔ k < zs ∧ 97 ≤ cbt tape k ∧ cbt tape k ≤ 122 := by
  have f0 := (cb_all h.1 k).1
  rw [by_at h]
  unfold mf_isSmall
  by_cases d : zs ≤ k
  · rw [if_pos d, if_pos (by decide)]
    exact ⟨fun q => (by cases q), fun q => by omega⟩
  · rw [if_neg d]
    by_cases c1 : cbt tape k < 97
    · rw [if_pos (show nI (cbt tape k) < (97 : Int32) from nI_lt (b := 97) c1 (by decide))]
      exact ⟨fun q => (by cases q), fun q => by omega⟩
    · rw [if_neg (show ¬ nI (cbt tape k) < (97 : Int32) from nI_nlt (b := 97) (by omega) (by omega))]
      by_cases c2 : 122 < cbt tape k
      · rw [if_pos (show (122 : Int32) < nI (cbt tape k) from nI_lt (a := 122) c2 (by omega))]
        exact ⟨fun q => (by cases q), fun q => by omega⟩
      · rw [if_neg (show ¬ (122 : Int32) < nI (cbt tape k) from nI_nlt (a := 122) (by omega) (by decide))]
        exact ⟨fun _ => by omega, fun _ => rfl⟩
theorem digit_iff (h : pTx tape text zs) : mf_isDigit (mf_byteAt zs text k) = true ↔ k < zs ∧ 48 ≤ cbt tape k ∧ cbt tape k ≤ 57 := by
  have f0 := (cb_all h.1 k).1
  rw [by_at h]
  unfold mf_isDigit
  by_cases d : zs ≤ k
  · rw [if_pos d, if_pos (by decide)]
    exact ⟨fun q => (by cases q), fun q => by omega⟩
  · rw [if_neg d]
    by_cases c1 : cbt tape k < 48
    · rw [if_pos (show nI (cbt tape k) < (48 : Int32) from nI_lt (b := 48) c1 (by decide))]
      exact ⟨fun q => (by cases q), fun q => by omega⟩
    · rw [if_neg (show ¬ nI (cbt tape k) < (48 : Int32) from nI_nlt (b := 48) (by omega) (by omega))]
      by_cases c2 : 57 < cbt tape k
      · rw [if_pos (show (57 : Int32) < nI (cbt tape k) from nI_lt (a := 57) c2 (by omega))]
        exact ⟨fun q => (by cases q), fun q => by omega⟩
      · rw [if_neg (show ¬ (57 : Int32) < nI (cbt tape k) from nI_nlt (a := 57) (by omega) (by decide))]
        exact ⟨fun _ => by omega, fun _ => rfl⟩
theorem let_eq (h : pTx tape text zs) : rf_isLetter zs tape k = mf_isSmall (mf_byteAt zs text k) := Bool.eq_iff_iff.mpr ((let_iff h.1).trans (small_iff h).symm)
theorem dig_eq (h : pTx tape text zs) : rf_isDigit zs tape k = mf_isDigit (mf_byteAt zs text k) := Bool.eq_iff_iff.mpr ((dig_iff h.1).trans (digit_iff h).symm)
theorem sp_eq (h : pTx tape text zs) (rb en s : Nat) : rf_next_L8 zs rb tape s = mf_onward_L0 zs en text s := by
  unfold rf_next_L8 mf_onward_L0
  refine zw_congr (fun s => ?_) _ s
  unfold rf_next_B8 mf_onward_B0
  by_cases d : zs ≤ s
  · rw [if_pos d, if_neg (fun q => by have := (by_eq (k := s) h (c := 32) (by omega)).mp q; omega), if_neg (fun q => by have := (by_eq (k := s) h (c := 10) (by omega)).mp q; omega)]
  · rw [if_neg d]
    have e1 : tape s = 10 ↔ mf_byteAt zs text s = 10 := (cb_eq h.1 (c := 10) (by omega)).trans (((by_eq (k := s) h (c := 10) (by omega)).trans ⟨fun q => q.2, fun q => ⟨by omega, q⟩⟩).symm)
    have e2 : tape s = 32 ↔ mf_byteAt zs text s = 32 := (cb_eq h.1 (c := 32) (by omega)).trans (((by_eq (k := s) h (c := 32) (by omega)).trans ⟨fun q => q.2, fun q => ⟨by omega, q⟩⟩).symm)
    by_cases c1 : mf_byteAt zs text s = 32
    · rw [if_pos c1]
      by_cases c2 : tape s = 10
      · rw [if_pos c2]
      · rw [if_neg c2, if_pos (e2.mpr c1)]
    · rw [if_neg c1]
      by_cases c2 : tape s = 10
      · rw [if_pos c2, if_pos (e1.mp c2)]
      · rw [if_neg c2, if_neg (fun q => c1 (e2.mp q)), if_neg (fun q => c2 (e1.mpr q))]
theorem wd_eq (h : pTx tape text zs) (t s : Nat) : rf_next_L107 zs tape t s = mf_onward_L81 zs text t s := by
  unfold rf_next_L107 mf_onward_L81
  refine zw_congr (fun s => ?_) _ s
  unfold rf_next_B107 mf_onward_B81
  rw [let_eq h]
/-- digits: as long as there are at most four the numbers agree -/
theorem dg_eq (h : pTx tape text zs) (t : Nat) : ∀ n k (v v' : Int32) (d d' : Nat × Int32), zs - k < n → t ≤ k → (k - t ≤ 4 → ∃ m : Nat, m < 10 ^ (k - t) ∧ v = nI m ∧ v' = nI m) → (zw (rf_next_B147 zs tape t) d n (k, v)).1 = (zw (mf_onward_B128 zs text t) d' n (k, v')).1 ∧ k ≤ (zw (mf_onward_B128 zs text t) d' n (k, v')).1 ∧ (k ≤ zs → (zw (mf_onward_B128 zs text t) d' n (k, v')).1 ≤ zs) ∧ ((zw (mf_onward_B128 zs text t) d' n (k, v')).1 - t ≤ 4 → ∃ m : Nat, m < 10000 ∧ (zw (rf_next_B147 zs tape t) d n (k, v)).2 = nI m ∧ (zw (mf_onward_B128 zs text t) d' n (k, v')).2 = nI m) := by
  intro n
  induction n with
  | zero => exact fun k v v' d d' hn => absurd hn (Nat.not_lt_zero _)
  | succ n ih =>
    intro k v v' d d' hn ht hv
    by_cases c : mf_isDigit (mf_byteAt zs text k) = true
    · have cd := (digit_iff h).mp c
      have cx : rf_isDigit zs tape k = true := (dig_eq h).trans c
      have eb : mf_byteAt zs text k = nI (cbt tape k) := by rw [by_at h, if_neg (by omega)]
      have et : tape k = nI (cbt tape k) := (cb_all h.1 k).2.2.2.2.1 (by omega)
      rw [zw_l (show mf_onward_B128 zs text t (k, v') = .inl (k + 1, zmin 100000 (((10 * v') + (mf_byteAt zs text k)) - 48)) by unfold mf_onward_B128; rw [if_pos c])]
      by_cases g : 4 ≤ k - t
      · rw [zw_l (show rf_next_B147 zs tape t (k, v) = .inl (k + 1, v) by unfold rf_next_B147; rw [if_pos cx, if_pos g])]
        obtain ⟨i1, i2, i3, i4⟩ := ih (k + 1) v (zmin 100000 (((10 * v') + (mf_byteAt zs text k)) - 48)) d d' (by omega) (by omega) (fun q => by omega)
        exact ⟨i1, by omega, fun q => i3 (by omega), i4⟩
      · rw [zw_l (show rf_next_B147 zs tape t (k, v) = .inl (k + 1, ((10 * v) + (tape k)) - 48) by unfold rf_next_B147; rw [if_pos cx, if_neg g])]
        obtain ⟨m, hm, rfl, rfl⟩ := hv (by omega)
        clear hv
        have hp : 10 ^ (k - t) ≤ 1000 := Nat.pow_le_pow_right (by decide) (show k - t ≤ 3 by omega)
        have es : ((10 * nI m) + nI (cbt tape k)) - 48 = nI (10 * m + (cbt tape k - 48)) := by
          rw [show (10 : Int32) * nI m = nI (10 * m) from pk_mul 10 m, nI_add]
          exact (pk_sub (a := 10 * m + cbt tape k) (b := 48) (by omega)).trans (congrArg nI (by omega))
        have ez : zmin 100000 (nI (10 * m + (cbt tape k - 48))) = nI (10 * m + (cbt tape k - 48)) := by
          unfold zmin
          rw [if_pos (show nI (10 * m + (cbt tape k - 48)) < (100000 : Int32) from nI_lt (b := 100000) (by omega) (by decide))]
        have hlt : 10 * m + (cbt tape k - 48) < 10 ^ (k + 1 - t) := by
          have hsu : k + 1 - t = (k - t) + 1 := by omega
          rw [hsu, Nat.pow_succ]
          omega
        rw [eb, et, es, ez]
        obtain ⟨i1, i2, i3, i4⟩ := ih (k + 1) (nI (10 * m + (cbt tape k - 48))) (nI (10 * m + (cbt tape k - 48))) d d' (by omega) (by omega) (fun _ => ⟨10 * m + (cbt tape k - 48), hlt, rfl, rfl⟩)
        exact ⟨i1, by omega, fun q => i3 (by omega), i4⟩
    · have cx : ¬ rf_isDigit zs tape k = true := fun q => c ((dig_eq h).symm.trans q)
      rw [zw_r (show mf_onward_B128 zs text t (k, v') = .inr (k, v') by unfold mf_onward_B128; rw [if_neg c]), zw_r (show rf_next_B147 zs tape t (k, v) = .inr (k, v) by unfold rf_next_B147; rw [if_neg cx])]
      refine ⟨rfl, Nat.le_refl _, fun q => q, fun q => ?_⟩
      obtain ⟨m, hm, e1, e2⟩ := hv q
      have hp : 10 ^ (k - t) ≤ 10000 := Nat.pow_le_pow_right (by decide) (show k - t ≤ 4 by omega)
      exact ⟨m, by omega, e1, e2⟩
theorem sp_rng (h : pTx tape text zs) (en : Nat) : ∀ n s d, zs - s < n → s ≤ zs → s ≤ zw (mf_onward_B0 zs en text) d n s ∧ zw (mf_onward_B0 zs en text) d n s ≤ zs := by
  intro n
  induction n with
  | zero => exact fun s d hn => absurd hn (Nat.not_lt_zero _)
  | succ n ih =>
    intro s d hn hs
    by_cases c1 : mf_byteAt zs text s = 32
    · have := (by_eq h (c := 32) (by omega)).mp c1
      rw [zw_l (show mf_onward_B0 zs en text s = .inl (s + 1) by unfold mf_onward_B0; rw [if_pos c1])]
      have i := ih (s + 1) d (by omega) (by omega)
      omega
    · by_cases c2 : mf_byteAt zs text s = 10
      · have := (by_eq h (c := 10) (by omega)).mp c2
        rw [zw_l (show mf_onward_B0 zs en text s = .inl (s + 1) by unfold mf_onward_B0; rw [if_neg c1, if_pos c2])]
        have i := ih (s + 1) d (by omega) (by omega)
        omega
      · rw [zw_r (show mf_onward_B0 zs en text s = .inr s by unfold mf_onward_B0; rw [if_neg c1, if_neg c2])]
        exact ⟨Nat.le_refl _, hs⟩
theorem wd_rng (h : pTx tape text zs) (t : Nat) : ∀ n s d, zs - s < n → s ≤ zs → s ≤ zw (mf_onward_B81 zs text t) d n s ∧ zw (mf_onward_B81 zs text t) d n s ≤ zs ∧ ∀ j, s ≤ j → j < zw (mf_onward_B81 zs text t) d n s → 97 ≤ cbt tape j ∧ cbt tape j ≤ 122 := by
  intro n
  induction n with
  | zero => exact fun s d hn => absurd hn (Nat.not_lt_zero _)
  | succ n ih =>
    intro s d hn hs
    by_cases c1 : mf_isSmall (mf_byteAt zs text s) = true
    · have q := (small_iff h).mp c1
      rw [zw_l (show mf_onward_B81 zs text t s = .inl (s + 1) by unfold mf_onward_B81; rw [if_pos c1])]
      obtain ⟨i1, i2, i3⟩ := ih (s + 1) d (by omega) (by omega)
      refine ⟨by omega, i2, fun j j1 j2 => ?_⟩
      by_cases e : j = s
      · subst e; exact q.2
      · exact i3 j (by omega) j2
    · rw [zw_r (show mf_onward_B81 zs text t s = .inr s by unfold mf_onward_B81; rw [if_neg c1])]
      exact ⟨Nat.le_refl _, hs, fun j j1 j2 => by omega⟩
/-- one token on both sides: x's place, end, sort, number; the model's token, place, end, value -/
def pTk (tape : Nat → Int32) (zs : Nat) (x : Nat × Nat × Int32 × Int32) (m : Int32 × Nat × Nat × Int32) : Prop :=
  x.1 = m.2.1 ∧ x.2.1 = m.2.2.1 ∧ m.2.1 ≤ m.2.2.1 ∧ m.2.2.1 ≤ zs ∧ ((x.2.2.1 = 0 ∧ m.1 = 0) ∨ (x.2.2.1 = 1 ∧ m.1 = 2 ∧ m.2.1 < m.2.2.1 ∧ ∀ j, m.2.1 ≤ j → j < m.2.2.1 → 97 ≤ cbt tape j ∧ cbt tape j ≤ 122) ∨ (x.2.2.1 = 2 ∧ m.1 = 3 ∧ m.2.1 < m.2.2.1 ∧ ∃ v : Nat, v < 10000 ∧ x.2.2.2 = nI v ∧ m.2.2.2 = nI v) ∨ (x.2.2.1 = 3 ∧ m.1 = 4 ∧ m.2.1 < m.2.2.1 ∧ tape m.2.1 = m.2.2.2) ∨ (x.2.2.1 = 4 ∧ m.1 = 1 ∧ m.2.1 < m.2.2.1))
theorem next_tk (h : pTx tape text zs) {rb en : Nat} {num : Int32} (h9 : zs ≤ 900) (he : rb = en) (hz : en ≤ zs) : pTk tape zs (rf_next zs rb num tape) (mf_onward zs en text) ∧ en ≤ (mf_onward zs en text).2.1 := by
  subst he
  obtain ⟨s1, s2⟩ := sp_rng h rb ((zs - rb) + 1) rb rb (Nat.lt_succ_self _) hz
  unfold rf_next mf_onward zlet
  rw [sp_eq h rb rb rb]
  change rb ≤ mf_onward_L0 zs rb text rb at s1
  change mf_onward_L0 zs rb text rb ≤ zs at s2
  generalize mf_onward_L0 zs rb text rb = t at s1 s2 ⊢
  dsimp only
  by_cases c0 : mf_byteAt zs text t = -1
  · have := (by_m1 h).mp c0
    rw [if_pos c0, if_neg (show ¬ t < zs by omega)]
    exact ⟨⟨rfl, rfl, Nat.le_refl _, s2, Or.inl ⟨rfl, rfl⟩⟩, s1⟩
  · have ht : t < zs := by
      apply Classical.byContradiction
      intro q
      exact c0 ((by_m1 h).mpr (by omega))
    rw [if_neg c0, if_pos ht, let_eq h, dig_eq h]
    by_cases c1 : mf_isSmall (mf_byteAt zs text t) = true
    · rw [if_pos c1, if_pos c1, wd_eq h]
      obtain ⟨w1, w2, w3⟩ := wd_rng h t ((zs - t) + 1) t t (Nat.lt_succ_self _) s2
      have w4 : t < zw (mf_onward_B81 zs text t) t ((zs - t) + 1) t := by
        rw [zw_l (show mf_onward_B81 zs text t t = .inl (t + 1) by unfold mf_onward_B81; rw [if_pos c1])]
        have hq : zs - t = (zs - (t + 1)) + 1 := by omega
        rw [hq]
        have := (wd_rng h t ((zs - (t + 1)) + 1) (t + 1) t (Nat.lt_succ_self _) (by omega)).1
        omega
      exact ⟨⟨rfl, rfl, w1, w2, Or.inr (Or.inl ⟨rfl, rfl, w4, w3⟩)⟩, s1⟩
    · rw [if_neg c1, if_neg c1]
      by_cases c2 : mf_isDigit (mf_byteAt zs text t) = true
      · rw [if_pos c2, if_pos c2]
        obtain ⟨d1, d2, d3, d4⟩ := dg_eq h t ((zs - t) + 1) t 0 0 (t, 0) (t, 0) (Nat.lt_succ_self _) (Nat.le_refl _) (fun _ => ⟨0, by rw [Nat.sub_self]; decide, rfl, rfl⟩)
        have d5 : t < (zw (mf_onward_B128 zs text t) (t, 0) ((zs - t) + 1) (t, 0)).1 := by
          rw [zw_l (show mf_onward_B128 zs text t (t, 0) = .inl (t + 1, zmin 100000 (((10 * 0) + (mf_byteAt zs text t)) - 48)) by unfold mf_onward_B128; rw [if_pos c2])]
          have hq : zs - t = (zs - (t + 1)) + 1 := by omega
          rw [hq]
          by_cases g : t + 1 - t ≤ 4
          · have hcb := ((digit_iff h).mp c2).2
            have eb : mf_byteAt zs text t = nI (cbt tape t) := by rw [by_at h, if_neg (by omega)]
            have e1 : zmin 100000 (((10 * 0) + (mf_byteAt zs text t)) - 48) = nI (cbt tape t - 48) := by
              rw [eb, show (10 * 0 : Int32) = nI 0 from by decide, nI_add, Nat.zero_add]
              rw [show nI (cbt tape t) - 48 = nI (cbt tape t - 48) from pk_sub (b := 48) (by omega)]
              unfold zmin
              rw [if_pos (show nI (cbt tape t - 48) < (100000 : Int32) from nI_lt (b := 100000) (by omega) (by decide))]
            rw [e1]
            have := (dg_eq h t ((zs - (t + 1)) + 1) (t + 1) (nI (cbt tape t - 48)) (nI (cbt tape t - 48)) (t, 0) (t, 0) (Nat.lt_succ_self _) (by omega) (fun _ => ⟨cbt tape t - 48, by rw [show t + 1 - t = 1 by omega]; omega, rfl, rfl⟩)).2.1
            omega
          · omega
        change (rf_next_L147 zs tape t (t, 0)).1 = (mf_onward_L128 zs text t (t, 0)).1 at d1
        change t ≤ (mf_onward_L128 zs text t (t, 0)).1 at d2
        change t ≤ zs → (mf_onward_L128 zs text t (t, 0)).1 ≤ zs at d3
        change (mf_onward_L128 zs text t (t, 0)).1 - t ≤ 4 → ∃ m : Nat, m < 10000 ∧ (rf_next_L147 zs tape t (t, 0)).2 = nI m ∧ (mf_onward_L128 zs text t (t, 0)).2 = nI m at d4
        change t < (mf_onward_L128 zs text t (t, 0)).1 at d5
        generalize rf_next_L147 zs tape t (t, 0) = p at d1 d4 ⊢
        generalize mf_onward_L128 zs text t (t, 0) = q at d1 d2 d3 d4 d5 ⊢
        have hqz := d3 s2
        rw [d1]
        by_cases g : q.1 - t ≤ 4
        · rw [if_pos g, if_pos (show nI q.1 - nI t ≤ 4 by rw [pk_sub d2]; exact nI_le (b := 4) g (by decide))]
          obtain ⟨m, m1, m2, m3⟩ := d4 g
          exact ⟨⟨rfl, rfl, d2, hqz, Or.inr (Or.inr (Or.inl ⟨rfl, rfl, d5, m, m1, m2, m3⟩))⟩, s1⟩
        · rw [if_neg g]
          by_cases g2 : nI q.1 - nI t ≤ 4
          · exfalso
            rw [pk_sub d2] at g2
            exact nI_ge (a := 4) (b := q.1 - t) (by omega) (by omega) g2
          · rw [if_neg g2]
            exact ⟨⟨rfl, rfl, d2, hqz, Or.inr (Or.inr (Or.inr (Or.inr ⟨rfl, rfl, d5⟩)))⟩, s1⟩
      · rw [if_neg c2, if_neg c2]
        have hs : ∀ c : Nat, c < 128 → (tape t = nI c ↔ mf_byteAt zs text t = nI c) := fun c hc => (cb_eq h.1 hc).trans (((by_eq (k := t) h (by omega)).trans ⟨fun q => q.2, fun q => ⟨ht, q⟩⟩).symm)
        by_cases g1 : mf_byteAt zs text t = 59
        · have e := (hs 59 (by omega)).mpr g1
          rw [if_pos g1, if_pos (show tape t = 59 from e)]
          exact ⟨⟨rfl, rfl, by dsimp only; omega, by dsimp only; omega, Or.inr (Or.inr (Or.inr (Or.inl ⟨rfl, rfl, by dsimp only; omega, by dsimp only; rw [g1]; exact e⟩)))⟩, s1⟩
        · rw [if_neg g1, if_neg (show ¬ tape t = 59 from fun q => g1 ((hs 59 (by omega)).mp q))]
          by_cases g2 : mf_byteAt zs text t = 60
          · have e := (hs 60 (by omega)).mpr g2
            rw [if_pos g2, if_pos (show tape t = 60 from e)]
            exact ⟨⟨rfl, rfl, by dsimp only; omega, by dsimp only; omega, Or.inr (Or.inr (Or.inr (Or.inl ⟨rfl, rfl, by dsimp only; omega, by dsimp only; rw [g2]; exact e⟩)))⟩, s1⟩
          · rw [if_neg g2, if_neg (show ¬ tape t = 60 from fun q => g2 ((hs 60 (by omega)).mp q))]
            by_cases g3 : mf_byteAt zs text t = 62
            · have e := (hs 62 (by omega)).mpr g3
              rw [if_pos g3, if_pos (show tape t = 62 from e)]
              exact ⟨⟨rfl, rfl, by dsimp only; omega, by dsimp only; omega, Or.inr (Or.inr (Or.inr (Or.inl ⟨rfl, rfl, by dsimp only; omega, by dsimp only; rw [g3]; exact e⟩)))⟩, s1⟩
            · rw [if_neg g3, if_neg (show ¬ tape t = 62 from fun q => g3 ((hs 62 (by omega)).mp q))]
              by_cases g4 : mf_byteAt zs text t = 61
              · have e := (hs 61 (by omega)).mpr g4
                rw [if_pos g4, if_pos (show tape t = 61 from e)]
                exact ⟨⟨rfl, rfl, by dsimp only; omega, by dsimp only; omega, Or.inr (Or.inr (Or.inr (Or.inl ⟨rfl, rfl, by dsimp only; omega, by dsimp only; rw [g4]; exact e⟩)))⟩, s1⟩
              · rw [if_neg g4, if_neg (show ¬ tape t = 61 from fun q => g4 ((hs 61 (by omega)).mp q))]
                exact ⟨⟨rfl, rfl, by dsimp only; omega, by dsimp only; omega, Or.inr (Or.inr (Or.inr (Or.inr ⟨rfl, rfl, by dsimp only; omega⟩)))⟩, s1⟩
end R26
