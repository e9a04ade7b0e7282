/-! r24: the plain laws of the trays -/
section R24
variable {so mn : Nat → Int32} {tr : Nat → Int64} {t p f_ to_ at_ q : Int32} {v : Int64} {tn tn2 s s2 n n2 k : Nat} {rv rv2 : Nat → Int64}
/-- a tray that has a row: sort, many, numbers -/
def pTs (so mn : Nat → Int32) (tr : Nat → Int64) (t s n : Nat) (rv : Nat → Int64) : Prop := so t = nI s ∧ s ≤ 3 ∧ mn t = nI n ∧ n ≤ 60 ∧ tfit s rv ∧ ∀ k, k < n → tr (60 * t + k) = rv k
def pTr (so mn : Nat → Int32) (tr : Nat → Int64) (t : Nat) : Option (Nat × Nat × (Nat → Int64)) → Prop
  | none => mn t = -1
  | some r => pTs so mn tr t r.1 r.2.1 r.2.2
theorem pTs_m1 (h : pTs so mn tr tn s n rv) : ¬ mn tn = -1 := by
  rw [h.2.2.1]
  intro q
  have h6 := h.2.2.2.1
  exact nI_pos (n := n) (by omega) (by rw [q]; decide)
theorem pTr_mTR {rs : Nat → Option (Nat × Nat × (Nat → Int64))} (h : ∀ t, t < 4 → pTr so mn tr t (rs t)) : mTR mn := by
  intro k hk
  have h1 := h k hk
  cases e : rs k with
  | none => rw [e] at h1; exact Or.inl h1
  | some r =>
    rw [e] at h1
    have h6 := h1.2.2.2.1
    refine Or.inr ?_
    rw [h1.2.2.1, nI_clamp (by omega)]
    exact ⟨nI_pos (by omega), h6⟩
theorem pTr_other {so' mn' : Nat → Int32} {tr' : Nat → Int64} {t : Nat} (r : Option (Nat × Nat × (Nat → Int64))) (h1 : so' t = so t) (h2 : mn' t = mn t) (h3 : ∀ k, k < 60 → tr' (60 * t + k) = tr (60 * t + k)) (h : pTr so mn tr t r) : pTr so' mn' tr' t r := by
  cases r with
  | none => exact h2.trans h
  | some r =>
    obtain ⟨a1, a2, a3, a4, a5, a6⟩ := h
    exact ⟨h1.trans a1, a2, h2.trans a3, a4, a5, fun k hk => (h3 k (by omega)).trans (a6 k hk)⟩
theorem isTray_bad (h : t < 0 ∨ 4 ≤ t) : mf_isTray t = false := by
  unfold mf_isTray
  by_cases c : t < 0
  · rw [if_pos c]
  · rw [if_neg c, if_pos (h.resolve_left c)]
theorem isTray_ok (h : tn < 4) : mf_isTray (nI tn) = true := by
  unfold mf_isTray
  rw [if_neg (nI_pos (by omega)), if_neg (show ¬ (4 : Int32) ≤ nI tn from nI_ge (b := 4) h (by decide))]
theorem isTray_n (h : ¬ (t < 0 ∨ 4 ≤ t)) : ∃ tn : Nat, tn < 4 ∧ t = nI tn :=
  ⟨t.toNatClampNeg, z_nge 4 (by decide) (fun q => h (Or.inl q)) (fun q => h (Or.inr q)), z_nn (fun q => h (Or.inl q))⟩
theorem wp_bad (h : t < 0 ∨ 4 ≤ t) : mf_wrongPlace mn t p = 1 := by
  unfold mf_wrongPlace
  rw [isTray_bad h, if_neg (by decide)]
theorem wp_null (h : tn < 4) (hm : mn tn = -1) : mf_wrongPlace mn (nI tn) p = 2 := by
  unfold mf_wrongPlace
  rw [isTray_ok h, if_pos rfl, nI_clamp (by omega), if_pos hm]
theorem wp_out (h : tn < 4) (hs : pTs so mn tr tn s n rv) (ho : ¬ vp_in p n) : mf_wrongPlace mn (nI tn) p = 3 := by
  have h6 := hs.2.2.2.1
  unfold mf_wrongPlace
  rw [isTray_ok h, if_pos rfl, nI_clamp (by omega), if_neg (pTs_m1 hs)]
  by_cases c : p < 0
  · rw [if_pos c]
  · rw [if_neg c, if_neg]
    rw [hs.2.2.1]
    intro d
    exact ho (fun z => z.elim c (fun z2 => by have := z_lt n (by omega) c d; omega))
theorem wp_ok (h : tn < 4) (hs : pTs so mn tr tn s n rv) (hk : k < n) : mf_wrongPlace mn (nI tn) (nI k) = 0 := by
  have h6 := hs.2.2.2.1
  unfold mf_wrongPlace
  rw [isTray_ok h, if_pos rfl, nI_clamp (by omega), if_neg (pTs_m1 hs), if_neg (nI_pos (by omega)), if_pos (by rw [hs.2.2.1]; exact nI_lt hk (by omega))]
theorem w_bad (h : t < 0 ∨ 4 ≤ t) : mf_write so mn tr t p v = (false, 1, tr) := by
  unfold mf_write
  rw [wp_bad h, if_neg (by decide)]
  rfl
theorem w_null (h : tn < 4) (hm : mn tn = -1) : mf_write so mn tr (nI tn) p v = (false, 2, tr) := by
  unfold mf_write
  rw [wp_null h hm, if_neg (by decide)]
  rfl
theorem w_out (h : tn < 4) (hs : pTs so mn tr tn s n rv) (ho : ¬ vp_in p n) : mf_write so mn tr (nI tn) p v = (false, 3, tr) := by
  unfold mf_write
  rw [wp_out h hs ho, if_neg (by decide)]
  rfl
theorem cut_eq (hs : s ≤ 3) : mf_cut v (nI s) = tcut s v := by
  have : s = 0 ∨ s = 1 ∨ s = 2 ∨ s = 3 := by omega
  unfold mf_cut
  rcases this with rfl | rfl | rfl | rfl
  · rw [if_pos (by decide)]; rfl
  · rw [if_neg (by decide), if_pos (by decide)]; rfl
  · rw [if_neg (by decide), if_neg (by decide), if_pos (by decide)]; rfl
  · rw [if_neg (by decide), if_neg (by decide), if_neg (by decide)]; rfl
theorem w_ok (h : tn < 4) (hs : pTs so mn tr tn s n rv) (hk : k < n) : mf_write so mn tr (nI tn) (nI k) v = (true, 0, vp_updL tr (60 * tn + k) (tcut s v)) := by
  have h6 := hs.2.2.2.1
  unfold mf_write
  rw [wp_ok h hs hk, if_pos rfl, nI_clamp (by omega), nI_clamp (by omega), hs.1, cut_eq hs.2.1]
  rfl
theorem pTs_put {x : Int64} (hs : pTs so mn tr tn s n rv) (hk : k < n) : pTs so mn (vp_updL tr (60 * tn + k) (tcut s x)) tn s n (tput s rv k x) := by
  obtain ⟨a1, a2, a3, a4, a5, a6⟩ := hs
  refine ⟨a1, a2, a3, a4, tfit_put a5 k x, fun j hj => ?_⟩
  unfold tput
  by_cases e : j = k
  · subst e; rw [pk_uLs, pk_uLs]
  · rw [pk_uLn (by omega), pk_uLn e]; exact a6 j hj
theorem rd_bad (h : t < 0 ∨ 4 ≤ t) : mf_read mn tr t p = (-1, 1) := by
  unfold mf_read
  rw [wp_bad h, if_neg (by decide)]
theorem rd_null (h : tn < 4) (hm : mn tn = -1) : mf_read mn tr (nI tn) p = (-1, 2) := by
  unfold mf_read
  rw [wp_null h hm, if_neg (by decide)]
theorem rd_out (h : tn < 4) (hs : pTs so mn tr tn s n rv) (ho : ¬ vp_in p n) : mf_read mn tr (nI tn) p = (-1, 3) := by
  unfold mf_read
  rw [wp_out h hs ho, if_neg (by decide)]
theorem rd_ok (h : tn < 4) (hs : pTs so mn tr tn s n rv) (hk : k < n) : mf_read mn tr (nI tn) (nI k) = (rv k, 0) := by
  have h6 := hs.2.2.2.1
  unfold mf_read
  rw [wp_ok h hs hk, if_pos (by decide), nI_clamp (by omega), nI_clamp (by omega), hs.2.2.2.2.2 k hk]
/-- tray -/
theorem t_bad {s q : Int32} (h : t < 0 ∨ 4 ≤ t ∨ s < 0 ∨ 3 < s ∨ q < 0 ∨ 60 < q) : mf_tray so mn tr t s q = (false, 1, so, mn, tr) := by
  unfold mf_tray
  by_cases c : t < 0 ∨ 4 ≤ t
  · rw [isTray_bad c, if_neg (by decide)]
  · obtain ⟨tn, h4, rfl⟩ := isTray_n c
    rw [isTray_ok h4, if_pos rfl]
    by_cases c1 : s < 0
    · rw [if_pos c1]
    · rw [if_neg c1]
      by_cases c2 : 3 < s
      · rw [if_pos c2]
      · rw [if_neg c2]
        by_cases c3 : q < 0
        · rw [if_pos c3]
        · rw [if_neg c3, if_neg]
          intro d
          rcases h with h | h | h | h | h | h
          · exact c (Or.inl h)
          · exact c (Or.inr h)
          · exact c1 h
          · exact c2 h
          · exact c3 h
          · exact Int32.not_lt.mpr d h
theorem t_zero (tr : Nat → Int64) (t q : Int32) : ∀ m, (∀ j, ¬ (60 * t.toNatClampNeg ≤ j ∧ j < 60 * t.toNatClampNeg + m) → zf (mf_tray_B49 t q) tr m j = tr j) ∧ ∀ k, k < m → zf (mf_tray_B49 t q) tr m (60 * t.toNatClampNeg + k) = 0 := by
  intro m
  induction m with
  | zero => exact ⟨fun _ _ => rfl, fun k hk => absurd hk (Nat.not_lt_zero _)⟩
  | succ m ih =>
    obtain ⟨i1, i2⟩ := ih
    show (∀ j, ¬ (60 * t.toNatClampNeg ≤ j ∧ j < 60 * t.toNatClampNeg + (m + 1)) → vp_updL (zf (mf_tray_B49 t q) tr m) (60 * t.toNatClampNeg + m) 0 j = tr j) ∧ ∀ k, k < m + 1 → vp_updL (zf (mf_tray_B49 t q) tr m) (60 * t.toNatClampNeg + m) 0 (60 * t.toNatClampNeg + k) = 0
    refine ⟨fun j hj => (pk_uLn (by omega)).trans (i1 j (by omega)), fun k hk => ?_⟩
    by_cases e : k = m
    · subst e; exact pk_uLs
    · rw [pk_uLn (by omega)]; exact i2 k (by omega)
theorem tfit_0 (s : Nat) : tfit s (fun _ => 0) := by
  intro k
  show tcut s 0 = 0
  unfold tcut
  split <;> decide
theorem t_ok (h : tn < 4) (hs : s ≤ 3) (hn : n ≤ 60) : ∃ tr' : Nat → Int64, mf_tray so mn tr (nI tn) (nI s) (nI n) = (true, 0, upd so tn (nI s), upd mn tn (nI n), tr') ∧ (∀ j, ¬ (60 * tn ≤ j ∧ j < 60 * tn + 60) → tr' j = tr j) ∧ pTs (upd so tn (nI s)) (upd mn tn (nI n)) tr' tn s n (fun _ => 0) := by
  obtain ⟨i1, i2⟩ := t_zero tr (nI tn) (nI n) n
  rw [nI_clamp (by omega)] at i1 i2
  refine ⟨zf (mf_tray_B49 (nI tn) (nI n)) tr n, ?_, fun j hj => i1 j (by omega), pk_us, hs, pk_us, hn, tfit_0 s, i2⟩
  unfold mf_tray
  rw [isTray_ok h, if_pos rfl, if_neg (nI_pos (by omega)), if_neg (show ¬ (3 : Int32) < nI s from nI_nlt (a := 3) (b := s) hs (by decide)), if_neg (nI_pos (by omega)), if_pos (show nI n ≤ (60 : Int32) from nI_le (b := 60) hn (by decide))]
  unfold mf_tray_L49 zlet
  rw [nI_clamp (show n < 2 ^ 31 by omega), nI_clamp (show tn < 2 ^ 31 by omega)]
/-- pour -/
theorem p_bad (h : f_ < 0 ∨ 4 ≤ f_ ∨ to_ < 0 ∨ 4 ≤ to_ ∨ p < 0 ∨ at_ < 0 ∨ q < 0) : mf_pour so mn tr f_ p to_ at_ q = (false, 1, tr) := by
  unfold mf_pour
  by_cases c : f_ < 0 ∨ 4 ≤ f_
  · rw [isTray_bad c, if_neg (by decide)]
  · obtain ⟨fn, h4, e⟩ := isTray_n c
    rw [e, isTray_ok h4, if_pos rfl]
    by_cases c1 : to_ < 0 ∨ 4 ≤ to_
    · rw [isTray_bad c1, if_neg (by decide)]
    · obtain ⟨tn, h5, e5⟩ := isTray_n c1
      rw [e5, isTray_ok h5, if_pos rfl]
      by_cases c2 : p < 0
      · rw [if_pos c2]
      · rw [if_neg c2]
        by_cases c3 : at_ < 0
        · rw [if_pos c3]
        · rw [if_neg c3, if_neg]
          intro d
          rcases h with h | h | h | h | h | h | h
          · exact c (Or.inl h)
          · exact c (Or.inr h)
          · exact c1 (Or.inl h)
          · exact c1 (Or.inr h)
          · exact c2 h
          · exact c3 h
          · exact Int32.not_lt.mpr d h
variable {pl al m : Nat}
theorem p_go (h : tn < 4) (h2 : tn2 < 4) (hpl : pl < 2 ^ 31) (hal : al < 2 ^ 31) (hm : m < 2 ^ 31) : mf_pour so mn tr (nI tn) (nI pl) (nI tn2) (nI al) (nI m) = if mn tn = -1 then (false, 2, tr) else if mn tn2 = -1 then (false, 2, tr) else if so tn = so tn2 then (if nI ((mn tn).toNatClampNeg) - nI pl < nI m then (false, 3, tr) else if nI m ≤ nI ((mn tn2).toNatClampNeg) - nI al then (true, 0, zf (mf_pour_B118 (nI tn) (nI pl) (nI tn2) (nI al) (nI m)) tr m) else (false, 3, tr)) else (false, 8, tr) := by
  unfold mf_pour
  rw [isTray_ok h, if_pos rfl, isTray_ok h2, if_pos rfl, if_neg (nI_pos hpl), if_neg (nI_pos hal), if_pos (nI_pos' hm), nI_clamp (show tn < 2 ^ 31 by omega), nI_clamp (show tn2 < 2 ^ 31 by omega)]
  unfold mf_pour_L118 zlet
  rw [nI_clamp hm]
theorem sub_lt {a b c : Nat} (hb : b < 2 ^ 31) (hc : c < 2 ^ 31) (ha : a ≤ 60) : (nI a - nI b < nI c) ↔ a < b + c := by
  constructor
  · intro h
    apply Classical.byContradiction
    intro g
    rw [pk_sub (show b ≤ a by omega)] at h
    exact nI_nlt (a := a - b) (b := c) (by omega) (by omega) h
  · intro h
    apply Classical.byContradiction
    intro g
    have := z_subc ha hb hc g
    omega
theorem p_null1 (h : tn < 4) (h2 : tn2 < 4) (hpl : pl < 2 ^ 31) (hal : al < 2 ^ 31) (hm : m < 2 ^ 31) (e : mn tn = -1) : mf_pour so mn tr (nI tn) (nI pl) (nI tn2) (nI al) (nI m) = (false, 2, tr) := by
  rw [p_go h h2 hpl hal hm, if_pos e]
theorem p_null2 (h : tn < 4) (h2 : tn2 < 4) (hpl : pl < 2 ^ 31) (hal : al < 2 ^ 31) (hm : m < 2 ^ 31) (e : mn tn2 = -1) : mf_pour so mn tr (nI tn) (nI pl) (nI tn2) (nI al) (nI m) = (false, 2, tr) := by
  rw [p_go h h2 hpl hal hm]
  split
  · rfl
  · first | rfl | rw [if_pos e]
theorem p_sorts (h : tn < 4) (h2 : tn2 < 4) (hpl : pl < 2 ^ 31) (hal : al < 2 ^ 31) (hm : m < 2 ^ 31) (hs : pTs so mn tr tn s n rv) (hs2 : pTs so mn tr tn2 s2 n2 rv2) (hne : ¬ s = s2) : mf_pour so mn tr (nI tn) (nI pl) (nI tn2) (nI al) (nI m) = (false, 8, tr) := by
  rw [p_go h h2 hpl hal hm, if_neg (pTs_m1 hs), if_neg (pTs_m1 hs2), if_neg]
  rw [hs.1, hs2.1]
  intro q
  have a1 := hs.2.1
  have a2 := hs2.2.1
  exact hne ((nI_eq (by omega) (by omega)).mp q)
theorem p_out (h : tn < 4) (h2 : tn2 < 4) (hpl : pl < 2 ^ 31) (hal : al < 2 ^ 31) (hm : m < 2 ^ 31) (hs : pTs so mn tr tn s n rv) (hs2 : pTs so mn tr tn2 s n2 rv2) (ho : n < pl + m ∨ n2 < al + m) : mf_pour so mn tr (nI tn) (nI pl) (nI tn2) (nI al) (nI m) = (false, 3, tr) := by
  have a4 := hs.2.2.2.1
  have b4 := hs2.2.2.2.1
  rw [p_go h h2 hpl hal hm, if_neg (pTs_m1 hs), if_neg (pTs_m1 hs2), if_pos (hs.1.trans hs2.1.symm), hs.2.2.1, hs2.2.2.1, nI_clamp (show n < 2 ^ 31 by omega), nI_clamp (show n2 < 2 ^ 31 by omega)]
  by_cases c : n < pl + m
  · rw [if_pos ((sub_lt hpl hm a4).mpr c)]
  · rw [if_neg (fun z => c ((sub_lt hpl hm a4).mp z)), if_neg]
    intro z
    exact Int32.not_lt.mpr z ((sub_lt hal hm b4).mpr (ho.resolve_left c))
theorem cpF (tr : Nat → Int64) (S D : Nat) (g : Nat → (Nat → Int64) → Nat → Int64) (hg : ∀ k s, g k s = vp_updL s (D + k) (s (S + k))) (M : Nat) (hd : ∀ i k, i < k → k < M → ¬ S + k = D + i) : ∀ m, m ≤ M → (∀ j, ¬ (D ≤ j ∧ j < D + m) → zf g tr m j = tr j) ∧ ∀ k, k < m → zf g tr m (D + k) = tr (S + k) := by
  intro m
  induction m with
  | zero => exact fun _ => ⟨fun _ _ => rfl, fun k hk => absurd hk (Nat.not_lt_zero _)⟩
  | succ m ih =>
    intro hm
    obtain ⟨i1, i2⟩ := ih (by omega)
    have es : zf g tr m (S + m) = tr (S + m) := i1 _ (fun z => hd (S + m - D) m (by omega) (by omega) (by omega))
    show (∀ j, ¬ (D ≤ j ∧ j < D + (m + 1)) → g m (zf g tr m) j = tr j) ∧ ∀ k, k < m + 1 → g m (zf g tr m) (D + k) = tr (S + k)
    rw [hg, es]
    refine ⟨fun j hj => (pk_uLn (by omega)).trans (i1 j (by omega)), fun k hk => ?_⟩
    by_cases e : k = m
    · subst e; exact pk_uLs
    · rw [pk_uLn (by omega)]; exact i2 k (by omega)
theorem cpB (tr : Nat → Int64) (S D M : Nat) (g : Nat → (Nat → Int64) → Nat → Int64) (hg : ∀ k s, g k s = vp_updL s (D + (M - 1 - k)) (s (S + (M - 1 - k)))) (hd : ∀ i k, k < i → i < M → ¬ S + k = D + i) : ∀ m, m ≤ M → (∀ j, ¬ (D + (M - m) ≤ j ∧ j < D + M) → zf g tr m j = tr j) ∧ ∀ k, M - m ≤ k → k < M → zf g tr m (D + k) = tr (S + k) := by
  intro m
  induction m with
  | zero => exact fun _ => ⟨fun _ _ => rfl, fun k h1 h2 => by omega⟩
  | succ m ih =>
    intro hm
    obtain ⟨i1, i2⟩ := ih (by omega)
    have es : zf g tr m (S + (M - 1 - m)) = tr (S + (M - 1 - m)) := i1 _ (fun z => hd (S + (M - 1 - m) - D) (M - 1 - m) (by omega) (by omega) (by omega))
    show (∀ j, ¬ (D + (M - (m + 1)) ≤ j ∧ j < D + M) → g m (zf g tr m) j = tr j) ∧ ∀ k, M - (m + 1) ≤ k → k < M → g m (zf g tr m) (D + k) = tr (S + k)
    rw [hg, es]
    refine ⟨fun j hj => (pk_uLn (by omega)).trans (i1 j (by omega)), fun k h1 h2 => ?_⟩
    by_cases e : k = M - 1 - m
    · subst e; exact pk_uLs
    · rw [pk_uLn (by omega)]; exact i2 k (by omega) h2
theorem p_loop (h : tn < 4) (h2 : tn2 < 4) (hi1 : pl + m ≤ 60) (hi2 : al + m ≤ 60) : (∀ j, ¬ (60 * tn2 + al ≤ j ∧ j < 60 * tn2 + al + m) → zf (mf_pour_B118 (nI tn) (nI pl) (nI tn2) (nI al) (nI m)) tr m j = tr j) ∧ ∀ k, k < m → zf (mf_pour_B118 (nI tn) (nI pl) (nI tn2) (nI al) (nI m)) tr m (60 * tn2 + al + k) = tr (60 * tn + pl + k) := by
  have e1 : (nI tn).toNatClampNeg = tn := nI_clamp (by omega)
  have e2 : (nI tn2).toNatClampNeg = tn2 := nI_clamp (by omega)
  have e3 : (nI pl).toNatClampNeg = pl := nI_clamp (by omega)
  have e4 : (nI al).toNatClampNeg = al := nI_clamp (by omega)
  have e5 : (nI m).toNatClampNeg = m := nI_clamp (by omega)
  by_cases c : al ≤ pl
  · refine cpF tr (60 * tn + pl) (60 * tn2 + al) _ (fun k s => ?_) m (fun i k hik hk z => ?_) m (Nat.le_refl _)
    · unfold mf_pour_B118
      rw [e1, e2, e3, e4, if_pos c]
    · have : tn = tn2 := by omega
      omega
  · obtain ⟨i1, i2⟩ := cpB tr (60 * tn + pl) (60 * tn2 + al) m (mf_pour_B118 (nI tn) (nI pl) (nI tn2) (nI al) (nI m)) (fun k s => by
      unfold mf_pour_B118
      rw [e1, e2, e3, e4, e5, if_neg c]) (fun i k hik hk z => by
      have : tn = tn2 := by omega
      omega) m (Nat.le_refl _)
    exact ⟨fun j hj => i1 j (by omega), fun k hk => i2 k (by omega) hk⟩
theorem p_ok (h : tn < 4) (h2 : tn2 < 4) (hs : pTs so mn tr tn s n rv) (hs2 : pTs so mn tr tn2 s n2 rv2) (hi1 : pl + m ≤ n) (hi2 : al + m ≤ n2) : ∃ tr' : Nat → Int64, mf_pour so mn tr (nI tn) (nI pl) (nI tn2) (nI al) (nI m) = (true, 0, tr') ∧ (∀ j, ¬ (60 * tn2 ≤ j ∧ j < 60 * tn2 + 60) → tr' j = tr j) ∧ pTs so mn tr' tn2 s n2 (va_cpy rv rv2 pl al m) := by
  have a4 := hs.2.2.2.1
  have b4 := hs2.2.2.2.1
  obtain ⟨i1, i2⟩ := p_loop (tr := tr) h h2 (show pl + m ≤ 60 by omega) (show al + m ≤ 60 by omega)
  refine ⟨zf (mf_pour_B118 (nI tn) (nI pl) (nI tn2) (nI al) (nI m)) tr m, ?_, fun j hj => i1 j (by omega), hs2.1, hs2.2.1, hs2.2.2.1, b4, tfit_cpy hs.2.2.2.2.1 hs2.2.2.2.2.1 _ _ _, fun k hk => ?_⟩
  · rw [p_go h h2 (by omega) (by omega) (by omega), if_neg (pTs_m1 hs), if_neg (pTs_m1 hs2), if_pos (hs.1.trans hs2.1.symm), hs.2.2.1, hs2.2.2.1, nI_clamp (show n < 2 ^ 31 by omega), nI_clamp (show n2 < 2 ^ 31 by omega), if_neg (fun z => by have := (sub_lt (by omega) (by omega) a4).mp z; omega), if_pos]
    refine Int32.not_lt.mp (fun z => ?_)
    have := (sub_lt (by omega) (by omega) b4).mp z
    omega
  · by_cases c : al ≤ k ∧ k < al + m
    · have e := i2 (k - al) (by omega)
      rw [show 60 * tn2 + al + (k - al) = 60 * tn2 + k by omega] at e
      rw [e, pk_cpy_in c.1 c.2, show 60 * tn + pl + (k - al) = 60 * tn + (pl + (k - al)) by omega]
      exact hs.2.2.2.2.2 _ (by omega)
    · rw [i1 _ (by omega), pk_cpy_out (by omega)]
      exact hs2.2.2.2.2.2 k hk
end R24
section R24B
variable {a : Nat → Int32} {so mn : Nat → Int32} {tr : Nat → Int64} {Wd R nr tn s n : Nat} {rv : Nat → Int64} {ulit umayor unight uoil : Int32} {uborn ustays useen : Nat → Int32} {thouses talways tnever : Int32} {tbeside : Nat → Int32} {t : Int32}
/-- rows painted, rows told -/
theorem pr_bad (h : t < 0 ∨ 4 ≤ t) : mf_paintRows a mn tr Wd R t = (-1, 1, a) := by
  unfold mf_paintRows
  rw [isTray_bad h, if_neg (by decide)]
theorem pr_null (h : tn < 4) (hm : mn tn = -1) : mf_paintRows a mn tr Wd R (nI tn) = (-1, 2, a) := by
  unfold mf_paintRows
  rw [isTray_ok h, if_pos rfl, nI_clamp (by omega), if_pos hm]
theorem pr_few (h : tn < 4) (hs : pTs so mn tr tn s n rv) (hR : R ≤ 6) (hf : n < R) : mf_paintRows a mn tr Wd R (nI tn) = (-1, 3, a) := by
  unfold mf_paintRows
  rw [isTray_ok h, if_pos rfl, nI_clamp (by omega), if_neg (pTs_m1 hs), if_neg (by rw [hs.2.2.1]; exact nI_ge hf (by omega))]
theorem rr_paintRows {qw : Int32} (h : pH a Wd R nr ulit umayor unight uoil uborn ustays useen thouses talways tnever tbeside) (hL : pL thouses talways tnever ulit) (hsub : talways &&& thouses = talways) (h4 : tn < 4) (hs : pTs so mn tr tn s n rv) (hR : R ≤ 6) (hm : R ≤ n) : (xf_paintRowsGo qw ulit Wd R thouses talways tnever rv).1 = (mf_paintRows a mn tr Wd R (nI tn)).1 ∧ (xf_paintRowsGo qw ulit Wd R thouses talways tnever rv).2.1 = (mf_paintRows a mn tr Wd R (nI tn)).2.1 ∧ pH (mf_paintRows a mn tr Wd R (nI tn)).2.2 Wd R nr (xf_paintRowsGo qw ulit Wd R thouses talways tnever rv).2.2.2 umayor unight uoil uborn ustays useen thouses talways tnever tbeside ∧ pL thouses talways tnever (xf_paintRowsGo qw ulit Wd R thouses talways tnever rv).2.2.2 ∧ ∀ j, ¬ j = 3 → (mf_paintRows a mn tr Wd R (nI tn)).2.2 j = a j := by
  have key : ∀ m y pic w (d : (Nat × Int32 × Int32) ⊕ (Int32 × Int32 × Int32 × Int32)) (d' : (Nat × Int32) ⊕ (Int32 × Int32 × (Nat → Int32))), R - y < m → (∃ y' pic' w', zw (xf_paintRowsGo_B54 ulit Wd R rv) d m (y, pic, w) = .inl (y', pic', w') ∧ zw (mf_paintRows_B54 a tr Wd R (nI tn)) d' m (y, pic) = .inl (y', pic')) ∨ (∃ w', zw (xf_paintRowsGo_B54 ulit Wd R rv) d m (y, pic, w) = .inr (-1, 5, w', ulit) ∧ zw (mf_paintRows_B54 a tr Wd R (nI tn)) d' m (y, pic) = .inr (-1, 5, a)) := by
    intro m
    induction m with
    | zero => exact fun y pic w d d' hy => absurd hy (Nat.not_lt_zero _)
    | succ m ih =>
      intro y pic w d d' hy
      by_cases c : R ≤ y
      · refine Or.inl ⟨y, pic, w, zw_r ?_, zw_r ?_⟩
        · unfold xf_paintRowsGo_B54; rw [if_pos c]
        · unfold mf_paintRows_B54; rw [if_pos c]
      · have ev : tr (60 * (nI tn).toNatClampNeg + y) = rv y := by
          rw [nI_clamp (by omega)]
          exact hs.2.2.2.2.2 y (by omega)
        by_cases g : xf_isIn (rv y) 0 31 = true
        · rw [zw_l (show xf_paintRowsGo_B54 ulit Wd R rv (y, pic, w) = .inl (y + 1, pic ||| ((((rv y).toInt32) &&& (((1 : Int32) <<< ((nI Wd) &&& 31)) - 1)) <<< ((nI (Wd * y)) &&& 31)), w) by
            unfold xf_paintRowsGo_B54 zlet xf_want
            rw [if_neg c]
            dsimp only
            rw [if_pos g, if_pos rfl]), zw_l (show mf_paintRows_B54 a tr Wd R (nI tn) (y, pic) = .inl (y + 1, pic ||| ((((rv y).toInt32) &&& (((1 : Int32) <<< ((nI Wd) &&& 31)) - 1)) <<< ((nI (Wd * y)) &&& 31))) by
            unfold mf_paintRows_B54
            rw [if_neg c]
            dsimp only
            rw [ev, r_in, if_pos g])]
          exact ih _ _ _ d d' (by omega)
        · refine Or.inr ⟨5, zw_r ?_, zw_r ?_⟩
          · unfold xf_paintRowsGo_B54 zlet xf_want
            rw [if_neg c]
            dsimp only
            rw [if_neg g]
            rfl
          · unfold mf_paintRows_B54
            rw [if_neg c]
            dsimp only
            rw [ev, r_in, if_neg g]
  have em : mf_paintRows a mn tr Wd R (nI tn) = zcase (mf_paintRows_L54 a tr Wd R (nI tn) (0, 0)) (fun t_4 => (nI (mf_paints a t_4.2).1, 0, (mf_paints a t_4.2).2)) (fun r => r) := by
    unfold mf_paintRows
    rw [isTray_ok h4, if_pos rfl, nI_clamp (by omega), if_neg (pTs_m1 hs), if_pos (by rw [hs.2.2.1]; exact nI_le hm (by have := hs.2.2.2.1; omega))]
    rfl
  have ex : xf_paintRowsGo qw ulit Wd R thouses talways tnever rv = zcase (xf_paintRowsGo_L54 ulit Wd R rv (0, 0, qw)) (fun t_4 => (nI (zpc (hf_paint thouses talways tnever t_4.2.1)), 0, t_4.2.2, hf_paint thouses talways tnever t_4.2.1)) (fun r => r) := rfl
  rw [em, ex]
  rcases key ((R - 0) + 1) 0 0 qw (.inl (0, 0, qw)) (.inl (0, 0)) (Nat.lt_succ_self _) with ⟨y', pic', w', k1, k2⟩ | ⟨w', k1, k2⟩
  · rw [show xf_paintRowsGo_L54 ulit Wd R rv (0, 0, qw) = .inl (y', pic', w') from k1, show mf_paintRows_L54 a tr Wd R (nI tn) (0, 0) = .inl (y', pic') from k2]
    unfold mf_paints zcase
    dsimp only
    rw [r_paint h]
    exact ⟨rfl, rfl, pH_lit h hf_paint_stuck, pL_paint hsub, fun j hj => pk_un hj⟩
  · rw [show xf_paintRowsGo_L54 ulit Wd R rv (0, 0, qw) = .inr (-1, 5, w', ulit) from k1, show mf_paintRows_L54 a tr Wd R (nI tn) (0, 0) = .inr (-1, 5, a) from k2]
    exact ⟨rfl, rfl, h, hL, fun _ _ => rfl⟩
theorem cr_bad (h : t < 0 ∨ 4 ≤ t) : mf_copyRows a mn tr Wd R t = (-1, 1, tr) := by
  unfold mf_copyRows
  rw [isTray_bad h, if_neg (by decide)]
theorem cr_null (h : tn < 4) (hm : mn tn = -1) : mf_copyRows a mn tr Wd R (nI tn) = (-1, 2, tr) := by
  unfold mf_copyRows
  rw [isTray_ok h, if_pos rfl, nI_clamp (by omega), if_pos hm]
theorem cr_few (h : tn < 4) (hs : pTs so mn tr tn s n rv) (hR : R ≤ 6) (hf : n < R) : mf_copyRows a mn tr Wd R (nI tn) = (-1, 3, tr) := by
  unfold mf_copyRows
  rw [isTray_ok h, if_pos rfl, nI_clamp (by omega), if_neg (pTs_m1 hs), if_neg (by rw [hs.2.2.1]; exact nI_ge hf (by omega))]
theorem tcut_small : ∀ s, s < 4 → ∀ j, j < 32 → tcut s (lN j) = lN j := by decide +kernel
theorem strip_small (hW : Wd ≤ 5) (x y : Int32) : ∃ j, j < 32 ∧ xf_strip Wd x y = nI j := by
  have hk : ((((1 : Int32) <<< ((nI Wd) &&& 31)) - 1)).toBitVec.toNat = 2 ^ Wd - 1 := by
    have : Wd = 0 ∨ Wd = 1 ∨ Wd = 2 ∨ Wd = 3 ∨ Wd = 4 ∨ Wd = 5 := by omega
    rcases this with rfl | rfl | rfl | rfl | rfl | rfl <;> decide
  obtain ⟨j, hj, e⟩ := pk_andE (x >>> ((nI Wd * y) &&& 31)) Wd hk
  refine ⟨j, Nat.lt_of_lt_of_le hj ?_, e⟩
  exact Nat.pow_le_pow_right (by decide) hW
theorem rr_copyRows (h : pH a Wd R nr ulit umayor unight uoil uborn ustays useen thouses talways tnever tbeside) (h4 : tn < 4) (hs : pTs so mn tr tn s n rv) (hW : Wd ≤ 5) (hR : R ≤ 6) (hm : R ≤ n) : (xf_copyRowsGo ulit Wd R s rv).1 = (mf_copyRows a mn tr Wd R (nI tn)).1 ∧ (xf_copyRowsGo ulit Wd R s rv).2.1 = (mf_copyRows a mn tr Wd R (nI tn)).2.1 ∧ pTs so mn (mf_copyRows a mn tr Wd R (nI tn)).2.2 tn s n (xf_copyRowsGo ulit Wd R s rv).2.2 ∧ ∀ j, ¬ (60 * tn ≤ j ∧ j < 60 * tn + 60) → (mf_copyRows a mn tr Wd R (nI tn)).2.2 j = tr j := by
  have key : ∀ m, m ≤ R → (zf (xf_copyRowsGo_B59 ulit Wd R s) (0, rv) m).1 = 0 ∧ pTs so mn (zf (mf_copyRows_B52 a Wd R (nI tn)) tr m) tn s n (zf (xf_copyRowsGo_B59 ulit Wd R s) (0, rv) m).2 ∧ ∀ j, ¬ (60 * tn ≤ j ∧ j < 60 * tn + 60) → zf (mf_copyRows_B52 a Wd R (nI tn)) tr m j = tr j := by
    intro m
    induction m with
    | zero => exact fun _ => ⟨rfl, hs, fun _ _ => rfl⟩
    | succ m ih =>
      intro hm2
      obtain ⟨i1, i2, i3⟩ := ih (by omega)
      obtain ⟨j, hj, ej⟩ := strip_small hW ulit (nI m)
      have ec : tcut s ((xf_strip Wd ulit (nI m)).toInt64) = (xf_strip Wd ulit (nI m)).toInt64 := by
        rw [ej, nI_l (by omega)]
        exact tcut_small s (by have := hs.2.1; omega) j hj
      have e1 : mf_copyRows_B52 a Wd R (nI tn) m (zf (mf_copyRows_B52 a Wd R (nI tn)) tr m) = vp_updL (zf (mf_copyRows_B52 a Wd R (nI tn)) tr m) (60 * tn + m) (tcut s ((xf_strip Wd ulit (nI m)).toInt64)) := by
        rw [ec]
        unfold mf_copyRows_B52
        rw [nI_clamp (by omega), h.2.1]
        rfl
      show (0 : Int32) = 0 ∧ pTs so mn (mf_copyRows_B52 a Wd R (nI tn) m (zf (mf_copyRows_B52 a Wd R (nI tn)) tr m)) tn s n (tput s (zf (xf_copyRowsGo_B59 ulit Wd R s) (0, rv) m).2 m ((xf_strip Wd ulit (nI m)).toInt64)) ∧ ∀ j, ¬ (60 * tn ≤ j ∧ j < 60 * tn + 60) → mf_copyRows_B52 a Wd R (nI tn) m (zf (mf_copyRows_B52 a Wd R (nI tn)) tr m) j = tr j
      rw [e1]
      have h6 := hs.2.2.2.1
      exact ⟨rfl, pTs_put i2 (by omega), fun j hj => (pk_uLn (by omega)).trans (i3 j hj)⟩
  obtain ⟨k1, k2, k3⟩ := key R (Nat.le_refl _)
  have em : mf_copyRows a mn tr Wd R (nI tn) = (nI R, 0, zf (mf_copyRows_B52 a Wd R (nI tn)) tr R) := by
    unfold mf_copyRows
    rw [isTray_ok h4, if_pos rfl, nI_clamp (by omega), if_neg (pTs_m1 hs), if_pos (by rw [hs.2.2.1]; exact nI_le hm (by have := hs.2.2.2.1; omega))]
    rfl
  have ex : xf_copyRowsGo ulit Wd R s rv = (nI R, (zf (xf_copyRowsGo_B59 ulit Wd R s) (0, rv) R).1, (zf (xf_copyRowsGo_B59 ulit Wd R s) (0, rv) R).2) := rfl
  rw [em, ex]
  exact ⟨rfl, k1, k2, k3⟩
end R24B
