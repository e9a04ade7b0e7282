/-! r12: the heaps, counted and the biggest -/
/-- the houses beside, the ground bare -/
def near0 (W R : Nat) (rg : Bool) (k : Nat) : Int32 := mf_near (fun j => if j = 2 then -1 else if rg then 1 else 0) W R k
theorem near0_sym : ∀ W, W < 6 → ∀ R, R < 7 → ∀ rg : Bool, ∀ k, k < W * R → ∀ j, j < W * R → bt (near0 W R rg k) j = bt (near0 W R rg j) k := by decide +kernel
section R12
variable {a b th : Nat → Int32} {Wd R nr nc : Nat} {ulit umayor unight uoil : Int32} {uborn ustays useen : Nat → Int32} {thouses talways tnever : Int32} {tbeside tleast tmost : Nat → Int32}
theorem near_0 {k : Nat} : mf_near a Wd R k = near0 Wd R (decide (a 9 = 1)) k &&& a 2 := by
  have e9 : ((if decide (a 9 = 1) = true then (1 : Int32) else 0) = 1) = (a 9 = 1) := by
    by_cases c : a 9 = 1
    · rw [if_pos (decide_eq_true c)]; exact propext ⟨fun _ => c, fun _ => rfl⟩
    · rw [if_neg (by rw [decide_eq_false c]; decide)]; exact propext ⟨fun q => absurd q (by decide), fun q => absurd q c⟩
  have em : ∀ x : Int32, x &&& (-1) = x := fun x => b_ext (fun i hi => by rw [b_and, b_m1 i hi, Bool.and_true])
  unfold near0 mf_near
  simp only [show ¬ ((9 : Nat) = 2) by decide, if_true, if_false, e9, em]
  repeat' split
  all_goals rfl
theorem tb_sym {j k : Nat} {L : Int32} (h : pT a Wd R thouses talways tnever tbeside) (hW5 : Wd ≤ 5) (hR6 : R ≤ 6) (hL : L &&& thouses = L) (hj : j < Wd * R) (hk : k < Wd * R) (bj : bt L j = true) (e : bt (tbeside j &&& L) k = true) : bt (tbeside k &&& L) j = true := by
  have h30 : Wd * R ≤ 5 * 6 := Nat.mul_le_mul hW5 hR6
  rw [h.2.2 j hj, near_0, b_and, b_and, Bool.and_eq_true, Bool.and_eq_true] at e
  rw [h.2.2 k hk, near_0, b_and, b_and, Bool.and_eq_true, Bool.and_eq_true]
  refine ⟨⟨(near0_sym Wd (by omega) R (by omega) _ k hk j hj).trans e.1.1, ?_⟩, bj⟩
  rw [h.1]
  have := bj
  rw [← hL, b_and, Bool.and_eq_true] at this
  exact this.2
theorem ntz_k {x : Int32} {k : Nat} (hk : k < 32) (h1 : bt x k = true) (h2 : ∀ i, i < k → bt x i = false) : jf_ntz x = nI k := by
  obtain ⟨n, hn, rfl⟩ := zn_of x
  have eb : ∀ i, i < 32 → bt (nI n) i = n.testBit i := fun i hi => by
    show (BitVec.ofNat 32 n).getLsbD i = n.testBit i
    rw [BitVec.getLsbD_ofNat, decide_eq_true hi, Bool.true_and]
  have hp : 0 < n := by
    rcases Nat.eq_zero_or_pos n with q | q
    · subst q; rw [show nI 0 = 0 from rfl, b_0] at h1; cases h1
    · exact q
  obtain ⟨j, q, e⟩ := ntz_odd n hp
  have hj : j < 32 := by
    rcases Nat.lt_or_ge j 32 with c | c
    · exact c
    · have : 2 ^ 32 ≤ 2 ^ j := Nat.pow_le_pow_right (by omega) c
      have : 2 ^ j ≤ n := by rw [e]; exact Nat.le_mul_of_pos_right _ (by omega)
      omega
  rw [ntz_eq e hn hj]
  have tb : ∀ i, n.testBit i = (decide (i ≥ j) && (2 * q + 1).testBit (i - j)) := fun i => by rw [e, Nat.testBit_two_pow_mul]
  rcases Nat.lt_trichotomy j k with c | c | c
  · have := h2 j c
    rw [eb j hj, tb j, Nat.sub_self, Nat.testBit_zero] at this
    simp at this
  · rw [c]
  · rw [eb k hk, tb k, decide_eq_false (by omega)] at h1
    cases h1
theorem low_b : ∀ k, k < 32 → ∀ i, i < 32 → bt (((1 : Int32) <<< (nI k &&& 31)) - 1) i = decide (i < k) := by decide +kernel
theorem low_0 {x : Int32} {k : Nat} (hk : k < 32) : (x &&& (((1 : Int32) <<< (nI k &&& 31)) - 1)) = 0 ↔ ∀ i, i < k → bt x i = false := by
  constructor
  · intro h i hi
    have this : bt (x &&& (((1 : Int32) <<< (nI k &&& 31)) - 1)) i = bt 0 i := congrArg (fun t => bt t i) h
    rw [b_and, low_b k hk i (by omega), decide_eq_true hi, Bool.and_true, b_0] at this
    exact this
  · intro h
    refine b_ext (fun i hi => ?_)
    rw [b_and, low_b k hk i hi, b_0]
    by_cases c : i < k
    · rw [h i c]; rfl
    · rw [decide_eq_false c, Bool.and_false]
/-- the heap of a lit house -/
def hpC (ulit : Int32) (Wd R : Nat) (tbeside : Nat → Int32) (k : Nat) : Int32 := xf_heapOf ulit Wd R tbeside (nI k)
theorem hpC_k {k : Nat} (h30 : Wd * R ≤ 30) (hk : k < Wd * R) : bt (hpC ulit Wd R tbeside k) k = true :=
  (x_hp (kk := nI k) h30).1 k (by omega) (by rw [bt_s (by omega) (by omega)]; exact decide_eq_true rfl)
theorem hpC_s {k : Nat} {T : Int32} (h30 : Wd * R ≤ 30) (hk : k < Wd * R) (hT : zCl tbeside ulit (Wd * R) T) (h : bt T k = true) : zSub (hpC ulit Wd R tbeside k) T :=
  (x_hp (kk := nI k) h30).2.2 T hT (fun i hi q => by
    rw [bt_s (by omega) hi] at q
    rw [of_decide_eq_true q]; exact h)
theorem hpC_l {k : Nat} (h30 : Wd * R ≤ 30) (hk : k < Wd * R) (hl : bt ulit k = true) : zSub (hpC ulit Wd R tbeside k) ulit :=
  hpC_s h30 hk (fun j _ _ i hi q => by rw [b_and, Bool.and_eq_true] at q; exact q.2) hl
theorem hpC_in {j k : Nat} (h30 : Wd * R ≤ 30) (hj : j < Wd * R) (h : bt (hpC ulit Wd R tbeside k) j = true) : zSub (hpC ulit Wd R tbeside j) (hpC ulit Wd R tbeside k) :=
  hpC_s h30 hj (x_hp (kk := nI k) h30).2.1 h
theorem lit_N (hN : ∀ i, i < 32 → bt thouses i = true → i < Wd * R) (hL : ulit &&& thouses = ulit) {i : Nat} (hi : i < 32) (h : bt ulit i = true) : i < Wd * R := by
  rw [← hL, b_and, Bool.and_eq_true] at h
  exact hN i hi h.2
/-- a heap is its own heap from each of its houses -/
theorem hpC_e {j k : Nat} (hT : pT a Wd R thouses talways tnever tbeside) (hW5 : Wd ≤ 5) (hR6 : R ≤ 6) (hN : ∀ i, i < 32 → bt thouses i = true → i < Wd * R) (hL : ulit &&& thouses = ulit) (hj : j < Wd * R) (hk : k < Wd * R) (hl : bt ulit k = true) (h : bt (hpC ulit Wd R tbeside k) j = true) : hpC ulit Wd R tbeside j = hpC ulit Wd R tbeside k := by
  have h30 : Wd * R ≤ 5 * 6 := Nat.mul_le_mul hW5 hR6
  refine zSub_anti (hpC_in h30 hj h) ?_
  have lj : bt ulit j = true := hpC_l h30 hk hl j (by omega) h
  refine hpC_s h30 hk (x_hp (kk := nI j) h30).2.1 ?_
  cases e : bt (hpC ulit Wd R tbeside j) k
  · -- the rest of the heap would be closed
    have ht : zCl tbeside ulit (Wd * R) (hpC ulit Wd R tbeside k &&& (hpC ulit Wd R tbeside j ^^^ (-1))) := by
      intro i hi q m hm z
      rw [b_and, b_xor, b_m1 i (by omega), Bool.and_eq_true] at q
      have q2 : bt (hpC ulit Wd R tbeside j) i = false := by
        cases f : bt (hpC ulit Wd R tbeside j) i
        · rfl
        · rw [f] at q; exact absurd q.2 (by decide)
      have mk : bt (hpC ulit Wd R tbeside k) m = true := (x_hp (kk := nI k) h30).2.1 i hi q.1 m hm z
      have lm : bt ulit m = true := by rw [b_and, Bool.and_eq_true] at z; exact z.2
      have li : bt ulit i = true := hpC_l h30 hk hl i (by omega) q.1
      have mN := lit_N hN hL hm lm
      rw [b_and, b_xor, b_m1 m hm, mk, Bool.true_and]
      cases f : bt (hpC ulit Wd R tbeside j) m
      · rfl
      · have := (x_hp (kk := nI j) h30).2.1 m mN f i (by omega) (tb_sym hT hW5 hR6 hL hi mN li z)
        rw [show xf_heapOf ulit Wd R tbeside (nI j) = hpC ulit Wd R tbeside j from rfl, q2] at this
        cases this
    have hs := hpC_s h30 hk ht (by rw [b_and, b_xor, b_m1 k (by omega), hpC_k h30 hk, e]; rfl) j (by omega) h
    rw [b_and, b_xor, b_m1 j (by omega), hpC_k (k := j) h30 hj, Bool.and_eq_true] at hs
    exact absurd hs.2 (by decide)
  · rfl
theorem zmax_l (x y : Int32) : x ≤ zmax x y := by
  unfold zmax
  split
  · next h => exact Int32.le_of_lt h
  · exact Int32.le_refl _
theorem zmax_r (x y : Int32) : y ≤ zmax x y := by
  unfold zmax
  split
  · exact Int32.le_refl _
  · next h => exact Int32.not_lt.mp h
theorem zmax_e {x y : Int32} (h : y ≤ x) : zmax x y = x := by
  unfold zmax
  rw [if_neg (Int32.not_lt.mpr h)]
/-- the houses whose heap has none before k -/
def pRs (ulit : Int32) (Wd R : Nat) (tbeside : Nat → Int32) (k : Nat) (rest : Int32) : Prop := ∀ j, j < 32 → (bt rest j = true ↔ bt ulit j = true ∧ ∀ i, i < k → bt (hpC ulit Wd R tbeside j) i = false)
theorem hs_run (h : pH a Wd R nr ulit umayor unight uoil uborn ustays useen thouses talways tnever tbeside) (hW5 : Wd ≤ 5) (hR6 : R ≤ 6) (hN : ∀ i, i < 32 → bt thouses i = true → i < Wd * R) (hL : ulit &&& thouses = ulit) (d : Int32 × Int32 × Int32) : ∀ m k n big cnt rest, m + k = Wd * R → zpc rest < n → pRs ulit Wd R tbeside k rest → zf (mf_heaps_B26 a Wd R (mf_laysNear a b Wd R)) (0, 0) k = (big, cnt) → 0 ≤ big → (∀ j, j < 32 → bt ulit j = true → (∃ i, i < k ∧ bt (hpC ulit Wd R tbeside j) i = true) → nI (zpc (hpC ulit Wd R tbeside j)) ≤ big) → zw (xf_heaps_B41 ulit Wd R tbeside) d n (big, cnt, rest) = ((zf (mf_heaps_B26 a Wd R (mf_laysNear a b Wd R)) (0, 0) (Wd * R)).1, (zf (mf_heaps_B26 a Wd R (mf_laysNear a b Wd R)) (0, 0) (Wd * R)).2, 0) := by
  have h30 : Wd * R ≤ 5 * 6 := Nat.mul_le_mul hW5 hR6
  intro m
  induction m with
  | zero =>
    intro k n big cnt rest hm hn hr hz h0 hb
    have hk : k = Wd * R := by omega
    subst hk
    have e0 : rest = 0 := b_ext (fun i hi => by
      rw [b_0]
      cases e : bt rest i
      · rfl
      · have r := (hr i hi).mp e
        have iN := lit_N hN hL hi r.1
        have := r.2 i iN
        rw [hpC_k h30 iN] at this
        cases this)
    subst e0
    obtain ⟨n', rfl⟩ : ∃ n', n = n' + 1 := ⟨n - 1, by omega⟩
    rw [zw_r (show xf_heaps_B41 ulit Wd R tbeside (big, cnt, 0) = .inr (big, cnt, 0) by unfold xf_heaps_B41; rw [if_pos rfl]), hz]
  | succ m ih =>
    intro k n big cnt rest hm hn hr hz h0 hb
    have hk : k < Wd * R := by omega
    have ez : zf (mf_heaps_B26 a Wd R (mf_laysNear a b Wd R)) (0, 0) (k + 1) = mf_heaps_B26 a Wd R (mf_laysNear a b Wd R) k (big, cnt) := by
      show mf_heaps_B26 a Wd R (mf_laysNear a b Wd R) k (zf (mf_heaps_B26 a Wd R (mf_laysNear a b Wd R)) (0, 0) k) = _
      rw [hz]
    have hh := r_heapOf (b := b) h h30 hk
    cases er : bt rest k with
    | true =>
      obtain ⟨lk, lo⟩ := (hr k (by omega)).mp er
      have hne : ¬ rest = 0 := fun q => by rw [q, b_0] at er; cases er
      have hnt : jf_ntz rest = nI k := ntz_k (by omega) er (fun i hi => by
        cases e : bt rest i
        · rfl
        · have r := (hr i (by omega)).mp e
          have := r.2 i hi
          rw [hpC_k h30 (by omega)] at this
          cases this)
      rw [if_pos lk, show xf_heapOf ulit Wd R tbeside (nI k) = hpC ulit Wd R tbeside k from rfl] at hh
      obtain ⟨n', rfl⟩ : ∃ n', n = n' + 1 := ⟨n - 1, by omega⟩
      have mu := heaps_mu (ulit := ulit) (Wd := Wd) (R := R) (tbeside := tbeside) hn hne
      rw [hnt, show xf_heapOf ulit Wd R tbeside (nI k) = hpC ulit Wd R tbeside k from rfl] at mu
      have ex : xf_heaps_B41 ulit Wd R tbeside (big, cnt, rest) = .inl (zmax big (nI (zpc (hpC ulit Wd R tbeside k))), cnt + 1, rest &&& (hpC ulit Wd R tbeside k ^^^ (-1))) := by
        unfold xf_heaps_B41
        dsimp only
        rw [if_neg hne, hnt]
        rfl
      rw [zw_l ex]
      have hC0 : ¬ hpC ulit Wd R tbeside k = 0 := fun q => by
        have := hpC_k (ulit := ulit) (tbeside := tbeside) h30 hk
        rw [q, b_0] at this
        cases this
      refine ih (k + 1) n' _ _ _ (by omega) mu (fun j hj => ?_) ?_ (Int32.le_trans h0 (zmax_l _ _)) (fun j hj lj ⟨i, hi, hib⟩ => ?_)
      · rw [b_and, b_xor, b_m1 j hj, Bool.and_eq_true, hr j hj]
        constructor
        · rintro ⟨⟨q1, q2⟩, q3⟩
          refine ⟨q1, fun i hi => ?_⟩
          by_cases c : i = k
          · subst c
            cases e : bt (hpC ulit Wd R tbeside j) i
            · rfl
            · have jN := lit_N hN hL hj q1
              have e2 := hpC_e h.1 hW5 hR6 hN hL hk jN q1 e
              have := hpC_k (ulit := ulit) (tbeside := tbeside) h30 jN
              rw [← e2] at this
              rw [this] at q3
              exact absurd q3 (by decide)
          · exact q2 i (by omega)
        · rintro ⟨q1, q2⟩
          refine ⟨⟨q1, fun i hi => q2 i (by omega)⟩, ?_⟩
          cases e : bt (hpC ulit Wd R tbeside k) j
          · rfl
          · have jN := lit_N hN hL hj q1
            have e2 := hpC_e h.1 hW5 hR6 hN hL jN hk lk e
            have := q2 k (by omega)
            rw [e2, hpC_k h30 hk] at this
            cases this
      · rw [ez]
        unfold mf_heaps_B26
        rw [hh, if_neg hC0, if_pos ((low_0 (by omega)).mpr lo)]
      · by_cases c : i = k
        · subst c
          rw [← hpC_e h.1 hW5 hR6 hN hL hk (lit_N hN hL hj lj) lj hib]
          exact zmax_r _ _
        · exact Int32.le_trans (hb j hj lj ⟨i, by omega, hib⟩) (zmax_l _ _)
    | false =>
      -- nothing new here
      have hnk : ∀ j, j < 32 → bt ulit j = true → bt (hpC ulit Wd R tbeside j) k = true → ∃ i, i < k ∧ bt (hpC ulit Wd R tbeside j) i = true := fun j hj lj e => by
        have jN := lit_N hN hL hj lj
        have lk : bt ulit k = true := hpC_l h30 jN lj k (by omega) e
        have e2 := hpC_e h.1 hW5 hR6 hN hL hk jN lj e
        rw [← e2]
        refine Classical.byContradiction fun z => ?_
        have := (hr k (by omega)).mpr ⟨lk, fun i hi => Bool.eq_false_iff.mpr (fun q => z ⟨i, hi, q⟩)⟩
        rw [this] at er
        cases er
      have e1 : mf_heaps_B26 a Wd R (mf_laysNear a b Wd R) k (big, cnt) = (big, cnt) := by
        unfold mf_heaps_B26
        dsimp only
        rw [hh, Int32.add_zero]
        by_cases lk : bt ulit k = true
        · rw [if_pos lk, show xf_heapOf ulit Wd R tbeside (nI k) = hpC ulit Wd R tbeside k from rfl]
          obtain ⟨i, hi, q⟩ := hnk k (by omega) lk (hpC_k h30 hk)
          have hle := hb k (by omega) lk ⟨i, hi, q⟩
          have hC0 : ¬ hpC ulit Wd R tbeside k = 0 := fun q => by
            have := hpC_k (ulit := ulit) (tbeside := tbeside) h30 hk
            rw [q, b_0] at this
            cases this
          rw [zmax_e hle, if_neg hC0, if_neg (fun z => by have := (low_0 (show k < 32 by omega)).mp z i hi; rw [q] at this; cases this)]
        · rw [if_neg lk, if_pos rfl, zpc_0, zmax_e (show nI 0 ≤ big from h0)]
      refine ih (k + 1) n _ _ _ (by omega) hn (fun j hj => ?_) (ez.trans e1) h0 (fun j hj lj ⟨i, hi, hib⟩ => ?_)
      · rw [hr j hj]
        constructor
        · rintro ⟨q1, q2⟩
          refine ⟨q1, fun i hi => ?_⟩
          by_cases c : i = k
          · subst c
            cases e : bt (hpC ulit Wd R tbeside j) i
            · rfl
            · obtain ⟨i', hi', q⟩ := hnk j hj q1 e
              rw [q2 i' hi'] at q
              cases q
          · exact q2 i (by omega)
        · rintro ⟨q1, q2⟩
          exact ⟨q1, fun i hi => q2 i (by omega)⟩
      · by_cases c : i = k
        · subst c
          exact hb j hj lj (hnk j hj lj hib)
        · exact hb j hj lj ⟨i, by omega, hib⟩
theorem rr_heaps {what : Int32} (h : pH a Wd R nr ulit umayor unight uoil uborn ustays useen thouses talways tnever tbeside) (hW5 : Wd ≤ 5) (hR6 : R ≤ 6) (hN : ∀ i, i < 32 → bt thouses i = true → i < Wd * R) (hL : ulit &&& thouses = ulit) : (xf_heaps ulit Wd R tbeside what).1 = (mf_heaps a b Wd R what).1 ∧ (xf_heaps ulit Wd R tbeside what).2 = (mf_heaps a b Wd R what).2.1 := by
  have e1 : xf_isIn what.toInt64 0 1 = true ↔ (¬ what < 0 ∧ ¬ 1 < what) := r_in2 (x := what) (N := 1) (by decide)
  have k := hs_run (b := b) h hW5 hR6 hN hL (0, 0, ulit) (Wd * R) 0 ((zpc ulit) + 1) 0 0 ulit (by omega) (Nat.lt_succ_self _) (fun j hj => ⟨fun q => ⟨q, fun i hi => absurd hi (Nat.not_lt_zero _)⟩, fun q => q.1⟩) rfl (Int32.le_refl _) (fun j _ _ ⟨i, hi, _⟩ => absurd hi (Nat.not_lt_zero _))
  unfold xf_heaps mf_heaps zlet xf_heaps_L41 mf_heaps_L26
  dsimp only
  rw [k]
  by_cases d : what < 0
  · rw [if_pos d, if_neg (fun q => (e1.mp q).1 d)]; exact ⟨rfl, rfl⟩
  · rw [if_neg d]
    by_cases e : what ≤ 1
    · rw [if_pos e, if_pos (e1.mpr ⟨d, Int32.not_lt.mpr e⟩)]
      by_cases f : what = 0
      · rw [if_pos f, if_pos f]; exact ⟨rfl, rfl⟩
      · rw [if_neg f, if_neg f]; exact ⟨rfl, rfl⟩
    · rw [if_neg e, if_neg (fun q => (e1.mp q).2 (Int32.not_le.mp e))]; exact ⟨rfl, rfl⟩
end R12
