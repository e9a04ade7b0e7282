/-! r52: what ties the two together, step by step -/
section R52
variable {G : zG} {tp mk zs fr en : Nat} {ny : Option Nat} {tape last lo t0 : Nat → Int32} {lit may nig oil : Int32} {bo sy se : Nat → Int32} {τ : zTn} {xm : Nat → Option Nat} {tq : Nat → Option zTy} {mq : Nat → Option zHo} {pt : List zTn} {py : List zYr} {a a' : Nat → Int32} {nm nm' : Nat → Int64} {so mn : Nat → Int32} {tr : Nat → Int64} {ys : Option (List (yT 3))}
theorem cpy_at {α : Type} (f g : Nat → α) {n k : Nat} (h : k < n) : va_cpy f g 0 0 n k = f k := by
  unfold va_cpy
  rw [if_pos ⟨Nat.zero_le _, by omega⟩]
  congr 1
  omega
theorem zSl_keep {bo' sy' se' : Nat → Int32} (e : ∀ j, j < 410 → a' j = a j) (en : ∀ k, k < 10 → nm' k = nm k) (hb : ∀ k, k < 4 → bo' k = bo k) (hs : ∀ k, k < 4 → sy' k = sy k) (hse : ∀ k, k < 10 → se' k = se k) (h : zSl a nm τ lit may nig oil bo sy se ys) : zSl a' nm' τ lit may nig oil bo' sy' se' ys := by
  obtain ⟨h1, ⟨h2, h3, h4⟩, h5⟩ := h
  have g1 := sTw_keep (a' := a') (nm' := nm') (fun j _ _ hj => e j (by omega)) en h1
  have g2 : sHl a' (τ.2.1 0) (τ.2.1 1) (τ.2.1 2) lit may nig oil bo' sy' se' (τ.2.2.1 0) (τ.2.2.1 1) (τ.2.2.1 2) (τ.2.2.2.2.1 0) := ⟨pH_same h2 (fun j hj => e j (by omega)) hb hs hse, h3, fun k hk => by rw [hse k hk]; exact h4 k hk⟩
  exact ⟨g1, g2, sYr_keep (slot_ok g1 g2) (e 11 (by omega)) (fun j _ hj => e j (by omega)) h5⟩
theorem yrL_mono {py' : List zYr} (hp : ∀ y ∈ py, y ∈ py') (h : yrL py ny ys) : yrL py' ny ys := by
  rcases h with h | ⟨y, h1, h2⟩
  · exact Or.inl h
  · exact Or.inr ⟨y, hp y h1, h2⟩
theorem mkL_keep {ts ts' : List zTn} {py' : List zYr} {h : zHo} (e : ∀ j, j < 410 → a' j = a j) (en : ∀ k, k < 10 → nm' k = nm k) (ht : ∀ τ ∈ ts, τ ∈ ts') (hp : ∀ y ∈ py, y ∈ py') (hh : mkL a nm ts py h) : mkL a' nm' ts' py' h := by
  obtain ⟨τ, h1, ys, h2, h3, h4⟩ := hh
  exact ⟨τ, ht τ h1, ys, h2, zSl_keep e en (fun _ _ => rfl) (fun _ _ => rfl) (fun _ _ => rfl) h3, yrL_mono hp h4⟩
theorem mkS_keep {ts ts' : List zTn} {py' : List zYr} (e : ∀ j, 410 ≤ j → j < 1640 → a' j = a j) (en : ∀ k, 10 ≤ k → k < 40 → nm' k = nm k) (ht : ∀ τ ∈ ts, τ ∈ ts') (hp : ∀ y ∈ py, y ∈ py') (h : mkS a nm mk xm mq ts py) : mkS a' nm' mk xm mq ts' py' := by
  obtain ⟨h1, h2, h3⟩ := h
  refine ⟨h1, h2, fun i hi => ?_⟩
  obtain ⟨q, g1, g2⟩ := h3 i hi
  exact ⟨q, g1, mkL_keep (fun j hj => e _ (by omega) (by omega)) (fun k hk => en _ (by omega) (by omega)) ht hp g2⟩
/-- the town goes on, the rest stays -/
theorem LR_h {lit' may' nig' oil' : Int32} {bo' sy' se' : Nat → Int32} (h : LR G tp ny mk tape lit may nig oil bo sy se τ last xm tq mq pt py zs fr en a nm so mn tr lo t0 ys) (e : ∀ j, kOff j → a' j = a j) (hH : pH a' (τ.2.1 0) (τ.2.1 1) (τ.2.1 2) lit' may' nig' oil' bo' sy' se' (τ.2.2.1 0) (τ.2.2.1 1) (τ.2.2.1 2) (τ.2.2.2.2.1 0)) (hL : pL (τ.2.2.1 0) (τ.2.2.1 1) (τ.2.2.1 2) lit') (hs : ∀ k, k < 10 → ¬ se' k < 0 ∧ se' k ≤ 3) : LR G tp ny mk tape lit' may' nig' oil' bo' sy' se' τ last xm tq mq pt py zs fr en a' nm so mn tr lo t0 ys := by
  obtain ⟨⟨s1, s2, s3⟩, h2, h3, h4, h5, h6, h7, h8, h9, h10⟩ := h
  have g1 := sTw_keep (a' := a') (nm' := nm) (fun j hj _ _ => e j hj) (fun _ _ => rfl) s1
  have g2 : sHl a' (τ.2.1 0) (τ.2.1 1) (τ.2.1 2) lit' may' nig' oil' bo' sy' se' (τ.2.2.1 0) (τ.2.2.1 1) (τ.2.2.1 2) (τ.2.2.2.2.1 0) := ⟨hH, hL, hs⟩
  refine ⟨⟨g1, g2, sYr_keep (slot_ok g1 g2) (e 11 (by unfold kOff; omega)) (fun j _ _ => e j (by unfold kOff; omega)) s3⟩, h2, h3, mkS_keep (fun j _ _ => e j (by unfold kOff; omega)) (fun _ _ _ => rfl) (fun _ h => h) (fun _ h => h) h4, h5, h6, h7, ?_, h9, h10⟩
  unfold mI4
  rw [e 1640 (by unfold kOff; omega), e 1641 (by unfold kOff; omega), e 1645 (by unfold kOff; omega), e 1646 (by unfold kOff; omega)]
  exact h8
theorem LR_H (h : LR G tp ny mk tape lit may nig oil bo sy se τ last xm tq mq pt py zs fr en a nm so mn tr lo t0 ys) : pH a (τ.2.1 0) (τ.2.1 1) (τ.2.1 2) lit may nig oil bo sy se (τ.2.2.1 0) (τ.2.2.1 1) (τ.2.2.1 2) (τ.2.2.2.2.1 0) := h.1.2.1.1
theorem LR_L (h : LR G tp ny mk tape lit may nig oil bo sy se τ last xm tq mq pt py zs fr en a nm so mn tr lo t0 ys) : pL (τ.2.2.1 0) (τ.2.2.1 1) (τ.2.2.1 2) lit := h.1.2.1.2.1
theorem LR_se (h : LR G tp ny mk tape lit may nig oil bo sy se τ last xm tq mq pt py zs fr en a nm so mn tr lo t0 ys) : ∀ k, k < 10 → ¬ se k < 0 ∧ se k ≤ 3 := h.1.2.1.2.2
theorem LR_T (h : LR G tp ny mk tape lit may nig oil bo sy se τ last xm tq mq pt py zs fr en a nm so mn tr lo t0 ys) : tOK (τ.2.1 0) (τ.2.1 1) (τ.2.1 2) (τ.2.1 3) := h.1.1.1
theorem LR_G (h : LR G tp ny mk tape lit may nig oil bo sy se τ last xm tq mq pt py zs fr en a nm so mn tr lo t0 ys) : mOK a (τ.2.1 0) (τ.2.1 1) (τ.2.1 2) (τ.2.1 3) := slot_ok h.1.1 h.1.2.1
theorem LR_W (h : LR G tp ny mk tape lit may nig oil bo sy se τ last xm tq mq pt py zs fr en a nm so mn tr lo t0 ys) : mTW a (τ.2.1 0) (τ.2.1 1) (τ.2.1 2) (τ.2.1 3) := ⟨LR_G h, h.2.2.2.2.2.2.2.1⟩
theorem LR_be (h : LR G tp ny mk tape lit may nig oil bo sy se τ last xm tq mq pt py zs fr en a nm so mn tr lo t0 ys) : ∀ k, k < (τ.2.1 0) * (τ.2.1 1) → zpc ((τ.2.2.2.2.1 0) k) ≤ 4 := sTw_be h.1.1
theorem LR_9 (h : LR G tp ny mk tape lit may nig oil bo sy se τ last xm tq mq pt py zs fr en a nm so mn tr lo t0 ys) : a 9 = (if tf_joins (τ.2.1 0) τ.2.2.2.1 = true then 1 else 0) := h.1.1.2.2.1
theorem LR_j (h : LR G tp ny mk tape lit may nig oil bo sy se τ last xm tq mq pt py zs fr en a nm so mn tr lo t0 ys) : a 9 = 1 ↔ tf_joins (τ.2.1 0) τ.2.2.2.1 = true := by
  rw [LR_9 h]
  by_cases c : tf_joins (τ.2.1 0) τ.2.2.2.1 = true
  · rw [if_pos c]; exact ⟨fun _ => c, fun _ => rfl⟩
  · rw [if_neg c]; exact ⟨fun q => absurd q (by decide), fun q => absurd q c⟩
theorem LR_C (h : LR G tp ny mk tape lit may nig oil bo sy se τ last xm tq mq pt py zs fr en a nm so mn tr lo t0 ys) : pC a (τ.2.1 3) (τ.2.2.2.2.1 1) (τ.2.2.2.2.1 2) := h.1.1.2.2.2.2.1
theorem LR_k (h : LR G tp ny mk tape lit may nig oil bo sy se τ last xm tq mq pt py zs fr en a nm so mn tr lo t0 ys) : pLk (τ.2.1 3) (τ.2.2.2.2.1 1) (τ.2.2.2.2.1 2) := h.1.1.2.2.2.2.2.1
theorem LR_s (h : LR G tp ny mk tape lit may nig oil bo sy se τ last xm tq mq pt py zs fr en a nm so mn tr lo t0 ys) : τ.2.2.1 1 &&& τ.2.2.1 0 = τ.2.2.1 1 := h.1.1.2.2.2.2.2.2.1.1
theorem LR_t (h : LR G tp ny mk tape lit may nig oil bo sy se τ last xm tq mq pt py zs fr en a nm so mn tr lo t0 ys) : τ.2.2.1 0 &&& (τ.2.2.1 1 ||| τ.2.2.1 2) = (τ.2.2.1 1 ||| τ.2.2.1 2) := h.1.1.2.2.2.2.2.2.1.2.1
theorem LR_N (h : LR G tp ny mk tape lit may nig oil bo sy se τ last xm tq mq pt py zs fr en a nm so mn tr lo t0 ys) : ∀ i, i < 32 → bt (τ.2.2.1 0) i = true → i < (τ.2.1 0) * (τ.2.1 1) := h.1.1.2.2.2.2.2.2.1.2.2
theorem LR_my (h : LR G tp ny mk tape lit may nig oil bo sy se τ last xm tq mq pt py zs fr en a nm so mn tr lo t0 ys) : may < 0 ∨ (¬ may < 0 ∧ may.toNatClampNeg < τ.2.1 2) := by
  obtain ⟨-, -, -, -, -, -, hm, -⟩ := LR_H h
  rcases hm with q | q
  · exact Or.inl (by rw [q]; decide)
  · exact Or.inr q
theorem LR_tr (h : LR G tp ny mk tape lit may nig oil bo sy se τ last xm tq mq pt py zs fr en a nm so mn tr lo t0 ys) : mTR mn := by
  intro k hk
  have h5 := h.2.2.2.2.1 k hk
  cases e : (tq k).map Prod.snd with
  | none => rw [e] at h5; exact Or.inl h5
  | some r =>
    rw [e] at h5
    obtain ⟨-, -, g3, g4, -⟩ := h5
    rw [g3]
    exact Or.inr ⟨nI_pos (by omega), by rw [nI_clamp (by omega)]; exact g4⟩
theorem LR_yr (h : LR G tp ny mk tape lit may nig oil bo sy se τ last xm tq mq pt py zs fr en a nm so mn tr lo t0 ys) : ys = none → a 11 = -1 := fun q => by
  have h1 := h.1.2.2
  rw [q] at h1
  exact h1
theorem LR_lv (h : LR G tp ny mk tape lit may nig oil bo sy se τ last xm tq mq pt py zs fr en a nm so mn tr lo t0 ys) : ∃ nn, mLV a (τ.2.1 0) (τ.2.1 1) (τ.2.1 2) (τ.2.1 3) nn ∧ ∀ cs, ys = some cs → lvE a (τ.2.1 0) (τ.2.1 1) (τ.2.1 2) (τ.2.1 3) nn (τ.2.2.1 0) (τ.2.2.1 1) (τ.2.2.1 2) (τ.2.2.2.2.1 0) (τ.2.2.2.2.1 1) (τ.2.2.2.2.1 2) ∧ yEncs (yEnc a (τ.2.1 0) (τ.2.1 1) (τ.2.1 2) 3) cs 0 nn ∧ ∀ x ∈ cs, yWf (τ.2.1 2) 3 x := by
  have h1 := h.1.2.2
  have h30 := (LR_T h).2.2.2.2.2.2
  cases ys with
  | none => exact ⟨0, ⟨LR_G h, Or.inl h1⟩, fun _ q => by cases q⟩
  | some cs =>
    obtain ⟨nn, y1, y2, y3⟩ := h1
    exact ⟨nn, ⟨LR_G h, Or.inr y1⟩, fun _ q => by cases q; exact ⟨⟨y1, LR_be h, h30, LR_s h, LR_t h, LR_C h, LR_k h⟩, y2, y3⟩⟩
/-- the scalars of a read text may change -/
theorem LR_z {zs' fr' en' : Nat} (h : LR G tp ny mk tape lit may nig oil bo sy se τ last xm tq mq pt py zs fr en a nm so mn tr lo t0 ys) (hz : zs' ≤ 900 ∧ fr' ≤ zs' ∧ en' ≤ zs') : LR G tp ny mk tape lit may nig oil bo sy se τ last xm tq mq pt py zs' fr' en' a nm so mn tr lo t0 ys := by
  obtain ⟨h1, h2, h3, h4, h5, h6, h7, h8, h9, h10⟩ := h
  exact ⟨h1, h2, h3, h4, h5, h6, hz, h8, h9, h10⟩
theorem LR_tape {tp' : Nat} {tape' : Nat → Int32} (h : LR G tp ny mk tape lit may nig oil bo sy se τ last xm tq mq pt py zs fr en a nm so mn tr lo t0 ys) (hz : tp' ≤ 900 ∧ pBt tape') : LR G tp' ny mk tape' lit may nig oil bo sy se τ last xm tq mq pt py zs fr en a nm so mn tr lo t0 ys := by
  obtain ⟨h1, h2, h3, h4, h5, h6, h7, h8, h9, h10⟩ := h
  exact ⟨h1, h2, h3, h4, h5, hz, h7, h8, h9, h10⟩
theorem LR_lo {lo' : Nat → Int32} (h : LR G tp ny mk tape lit may nig oil bo sy se τ last xm tq mq pt py zs fr en a nm so mn tr lo t0 ys) (hz : mLP lo') : LR G tp ny mk tape lit may nig oil bo sy se τ last xm tq mq pt py zs fr en a nm so mn tr lo' t0 ys := by
  obtain ⟨h1, h2, h3, h4, h5, h6, h7, h8, h9, h10⟩ := h
  exact ⟨h1, h2, h3, h4, h5, h6, h7, h8, hz, h10⟩
theorem LR_told {last' t0' : Nat → Int32} (h : LR G tp ny mk tape lit may nig oil bo sy se τ last xm tq mq pt py zs fr en a nm so mn tr lo t0 ys) (hz : ∀ k, k < 5 → last' k = t0' k) : LR G tp ny mk tape lit may nig oil bo sy se τ last' xm tq mq pt py zs fr en a nm so mn tr lo t0' ys := by
  obtain ⟨h1, h2, h3, h4, h5, h6, h7, h8, h9, h10⟩ := h
  exact ⟨h1, h2, h3, h4, h5, h6, h7, h8, h9, hz⟩
/-- a tray -/
theorem LR_ty {so' mn' : Nat → Int32} {tr' : Nat → Int64} {tq' : Nat → Option zTy} (h : LR G tp ny mk tape lit may nig oil bo sy se τ last xm tq mq pt py zs fr en a nm so mn tr lo t0 ys) (hz : tyL so' mn' tr' tq') : LR G tp ny mk tape lit may nig oil bo sy se τ last xm tq' mq pt py zs fr en a nm so' mn' tr' lo t0 ys := by
  obtain ⟨h1, h2, h3, h4, h5, h6, h7, h8, h9, h10⟩ := h
  exact ⟨h1, h2, h3, h4, hz, h6, h7, h8, h9, h10⟩
/-- a' agrees below the scratch room -/
theorem LR_a {lo' : Nat → Int32} (h : LR G tp ny mk tape lit may nig oil bo sy se τ last xm tq mq pt py zs fr en a nm so mn tr lo t0 ys) (e : ∀ j, j < 2050 → a' j = a j) (hz : mLP lo') : LR G tp ny mk tape lit may nig oil bo sy se τ last xm tq mq pt py zs fr en a' nm so mn tr lo' t0 ys := by
  obtain ⟨h1, h2, h3, h4, h5, h6, h7, h8, h9, h10⟩ := h
  refine ⟨zSl_keep (fun j hj => e j (by omega)) (fun _ _ => rfl) (fun _ _ => rfl) (fun _ _ => rfl) (fun _ _ => rfl) h1, h2, h3, mkS_keep (fun j _ _ => e j (by omega)) (fun _ _ _ => rfl) (fun _ h => h) (fun _ h => h) h4, h5, h6, h7, ?_, hz, h10⟩
  unfold mI4
  rw [e 1640 (by omega), e 1641 (by omega), e 1645 (by omega), e 1646 (by omega)]
  exact h8
/-- a mark set -/
theorem LR_mark {xm' : Nat → Option Nat} {mq' : Nat → Option zHo} {hn : zHo} (h : LR G tp ny mk tape lit may nig oil bo sy se τ last xm tq mq pt py zs fr en a nm so mn tr lo t0 ys) (hmk : mk < 3) (h1 : mq' mk = some hn) (h2 : ∀ j, j ≠ mk → mq' j = mq j) (hx : ∀ j, j < 3 → xm' j = (mq' j).map Prod.fst) (hy : hn.2.1 = ny) (ht : hn.2.2.2.1 = τ.1 0) (v1 : hn.2.2.2.2.1 = lit) (v2 : hn.2.2.2.2.2.1 = may) (v3 : hn.2.2.2.2.2.2.1 = nig) (v4 : hn.2.2.2.2.2.2.2.1 = oil) (f1 : ∀ k, k < 4 → hn.2.2.2.2.2.2.2.2.1 k = bo k) (f2 : ∀ k, k < 4 → hn.2.2.2.2.2.2.2.2.2.1 k = sy k) (f3 : ∀ k, k < 10 → hn.2.2.2.2.2.2.2.2.2.2 k = se k) : LR G tp ny (mk + 1) tape lit may nig oil bo sy se τ last xm' tq mq' pt py zs fr en (mf_copies_L2 0 (mk + 1) a) (mf_copies_L41 0 (mk + 1) nm) so mn tr lo t0 ys := by
  obtain ⟨g1, g2, g3, ⟨-, -, g4⟩, g5, g6, g7, g8, g9, g10⟩ := h
  obtain ⟨ca, cb⟩ := cp_at a (cf := 0) (ct := mk + 1) (by omega)
  obtain ⟨na, nb⟩ := cp_nm nm (cf := 0) (ct := mk + 1) (by omega)
  refine ⟨zSl_keep (fun j hj => ca j (by omega)) (fun k hk => na k (by omega)) (fun _ _ => rfl) (fun _ _ => rfl) (fun _ _ => rfl) g1, g2, g3, ⟨by omega, hx, fun i hi => ?_⟩, g5, g6, g7, ?_, g9, g10⟩
  · by_cases c : i = mk
    · subst c
      refine ⟨hn, h1, τ, List.mem_cons_self, ys, ht, ?_, by rw [hy]; exact g2⟩
      rw [v1, v2, v3, v4]
      exact zSl_keep (fun j hj => by rw [cb j hj]; congr 1; omega) (fun k hk => by rw [nb k hk]; congr 1; omega) f1 f2 f3 g1
    · obtain ⟨q, q1, q2⟩ := g4 i (by omega)
      exact ⟨q, by rw [h2 i c]; exact q1, mkL_keep (fun j hj => ca _ (by omega)) (fun k hk => na _ (by omega)) (fun _ h => h) (fun _ h => h) q2⟩
  · unfold mI4
    rw [ca 1640 (by omega), ca 1641 (by omega), ca 1645 (by omega), ca 1646 (by omega)]
    exact g8
/-- back to a mark -/
theorem LR_back {hn : zHo} {bo' sy' se' : Nat → Int32} (h : LR G tp ny mk tape lit may nig oil bo sy se τ last xm tq mq pt py zs fr en a nm so mn tr lo t0 ys) (hmk : 1 ≤ mk) (h1 : mq (mk - 1) = some hn) (f1 : ∀ k, k < 4 → bo' k = hn.2.2.2.2.2.2.2.2.1 k) (f2 : ∀ k, k < 4 → sy' k = hn.2.2.2.2.2.2.2.2.2.1 k) (f3 : ∀ k, k < 10 → se' k = hn.2.2.2.2.2.2.2.2.2.2 k) : ∃ (τ' : zTn) (pt' : List zTn) (ys' : Option (List (yT 3))), (τ :: pt).Perm (τ' :: pt') ∧ hn.2.2.2.1 = τ'.1 0 ∧ LR G tp hn.2.1 (mk - 1) tape hn.2.2.2.2.1 hn.2.2.2.2.2.1 hn.2.2.2.2.2.2.1 hn.2.2.2.2.2.2.2.1 bo' sy' se' τ' last xm tq mq pt' py zs fr en (mf_copies_L2 mk 0 a) (mf_copies_L41 mk 0 nm) so mn tr lo t0 ys' := by
  obtain ⟨g1, g2, g3, ⟨g4a, g4b, g4⟩, g5, g6, g7, g8, g9, g10⟩ := h
  obtain ⟨ca, cb⟩ := cp_at a (cf := mk) (ct := 0) (by omega)
  obtain ⟨na, nb⟩ := cp_nm nm (cf := mk) (ct := 0) (by omega)
  obtain ⟨q, q1, τ', t1, ys', t2, t3, t4⟩ := g4 (mk - 1) (by omega)
  cases q1.symm.trans h1
  obtain ⟨pt', hp⟩ := pool_mem t1
  have ek : mk - 1 + 1 = mk := by omega
  rw [ek] at t3
  refine ⟨τ', pt', ys', hp, t2, zSl_keep (fun j hj => ?_) (fun k hk => ?_) f1 f2 f3 t3, t4, g3, ⟨by omega, g4b, fun i hi => ?_⟩, g5, g6, g7, ?_, g9, g10⟩
  · have := cb j hj
    rw [show 410 * 0 + j = j by omega] at this
    exact this
  · have := nb k hk
    rw [show 10 * 0 + k = k by omega] at this
    exact this
  · obtain ⟨r, r1, r2⟩ := g4 i (by omega)
    exact ⟨r, r1, mkL_keep (fun j hj => ca _ (by omega)) (fun k hk => na _ (by omega)) (fun x hx => hp.mem_iff.mp hx) (fun _ h => h) r2⟩
  · unfold mI4
    rw [ca 1640 (by omega), ca 1641 (by omega), ca 1645 (by omega), ca 1646 (by omega)]
    exact g8
/-- a town read -/
theorem LR_town {τ' : zTn} {lit' may' nig' oil' : Int32} {bo' sy' se' : Nat → Int32} {zs' fr' ee' tp' : Nat} (h : LR G tp ny mk tape lit may nig oil bo sy se τ last xm tq mq pt py zs fr en a nm so mn tr lo t0 ys) (htp : tp' ≤ 900) (hz : zs' ≤ 900 ∧ fr' ≤ zs' ∧ ee' ≤ zs') (e : ∀ k, 410 ≤ k → k < 1640 → a' k = a k) (hi : mI4 a') (hn : ∀ k, 10 ≤ k → k < 40 → nm' k = nm k) (hS : zSl a' nm' τ' lit' may' nig' oil' bo' sy' se' none) : LR G tp' none mk tape lit' may' nig' oil' bo' sy' se' τ' last xm tq mq (τ :: pt) py zs' fr' ee' a' nm' so mn tr lo t0 none := by
  obtain ⟨g1, g2, g3, g4, g5, g6, g7, g8, g9, g10⟩ := h
  exact ⟨hS, Or.inl ⟨rfl, rfl⟩, g3, mkS_keep e hn (fun x hx => List.mem_cons_of_mem _ hx) (fun _ h => h) g4, g5, ⟨htp, g6.2⟩, hz, hi, g9, g10⟩
/-- a town or a year refused -/
theorem LR_bad {zs' fr' ee' tp' : Nat} (h : LR G tp ny mk tape lit may nig oil bo sy se τ last xm tq mq pt py zs fr en a nm so mn tr lo t0 ys) (htp : tp' ≤ 900) (hz : zs' ≤ 900 ∧ fr' ≤ zs' ∧ ee' ≤ zs') (e : ∀ k, k < 1640 → a' k = a k) (hi : mI4 a') (hn : ∀ k, k < 40 → nm' k = nm k) : LR G tp' ny mk tape lit may nig oil bo sy se τ last xm tq mq pt py zs' fr' ee' a' nm' so mn tr lo t0 ys := by
  obtain ⟨g1, g2, g3, g4, g5, g6, g7, g8, g9, g10⟩ := h
  exact ⟨zSl_keep (fun j hj => e j (by omega)) (fun k hk => hn k (by omega)) (fun _ _ => rfl) (fun _ _ => rfl) (fun _ _ => rfl) g1, g2, g3, mkS_keep (fun j _ hj => e j hj) (fun k _ hk => hn k hk) (fun _ h => h) (fun _ h => h) g4, g5, ⟨htp, g6.2⟩, hz, hi, g9, g10⟩
/-- a year read -/
theorem LR_year {zs' fr' ee' : Nat} {y : zYr} {cs : List (yT 3)} {nn : Nat} (h : LR G tp ny mk tape lit may nig oil bo sy se τ last xm tq mq pt py zs fr en a nm so mn tr lo t0 ys) (hz : zs' ≤ 900 ∧ fr' ≤ zs' ∧ ee' ≤ zs') (e : ∀ k, k < 1684 → ¬ k = 1651 → ¬ k = 11 → ¬ (44 ≤ k ∧ k < 405) → a' k = a k) (hn : nn ≤ 60) (h11 : a' 11 = nI nn) (henc : yEncs (yEnc a' (τ.2.1 0) (τ.2.1 1) (τ.2.1 2) 3) cs 0 nn) (hwf : ∀ x ∈ cs, yWf (τ.2.1 2) 3 x) (hy : yrO G y) (hyc : y.2.2.2.2.2 = cs) : LR G 0 (some y.1) mk tape lit may nig oil bo sy se τ last xm tq mq pt (y :: py) zs' fr' ee' a' nm so mn tr lo t0 (some cs) := by
  obtain ⟨⟨s1, ⟨s2, s2b, s2c⟩, s3⟩, g2, g3, g4, g5, g6, g7, g8, g9, g10⟩ := h
  have ek : ∀ j, j < 44 → ¬ j = 11 → a' j = a j := fun j j1 j2 => e j (by omega) (by omega) j2 (by omega)
  have k1 := sTw_keep (a' := a') (nm' := nm) (fun j _ j2 j3 => ek j (by omega) j2) (fun _ _ => rfl) s1
  have k2 : sHl a' (τ.2.1 0) (τ.2.1 1) (τ.2.1 2) lit may nig oil bo sy se (τ.2.2.1 0) (τ.2.2.1 1) (τ.2.2.1 2) (τ.2.2.2.2.1 0) := ⟨pH_k ek s2, s2b, s2c⟩
  have hG := slot_ok k1 k2
  refine ⟨⟨k1, k2, nn, ⟨hG, h11, hn, year_rows hG.2.2.1.2 hn henc⟩, henc, hwf⟩, Or.inr ⟨y, List.mem_cons_self, rfl, by rw [hyc]⟩, fun x hx => ?_, mkS_keep (fun j _ _ => e j (by omega) (by omega) (by omega) (by omega)) (fun _ _ _ => rfl) (fun _ h => h) (fun x hx => List.mem_cons_of_mem _ hx) g4, g5, ⟨Nat.zero_le _, g6.2⟩, hz, ?_, g9, g10⟩
  · rcases List.mem_cons.mp hx with q | q
    · rw [q]; exact hy
    · exact g3 x q
  · unfold mI4
    rw [e 1640 (by omega) (by omega) (by omega) (by omega), e 1641 (by omega) (by omega) (by omega) (by omega), e 1645 (by omega) (by omega) (by omega) (by omega), e 1646 (by omega) (by omega) (by omega) (by omega)]
    exact g8
end R52
