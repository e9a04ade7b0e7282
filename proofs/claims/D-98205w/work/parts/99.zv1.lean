/-! r20: a year lived: the table's loops, unrolled; one step of them -/
section R20
variable {a b : Nat → Int32} {Wd R nr nc nn : Nat}
theorem zw_fu {σ ρ : Type} {f : σ → σ ⊕ ρ} {d d' : ρ} (P : σ → Prop) (μ : σ → Nat) (h : ∀ s s', P s → f s = .inl s' → P s' ∧ μ s' < μ s) : ∀ n m s, P s → μ s < n → μ s < m → zw f d n s = zw f d' m s := by
  intro n
  induction n with
  | zero => intro m s _ h0 _; exact absurd h0 (Nat.not_lt_zero _)
  | succ n ih =>
    intro m s hP h1 h2
    cases m with
    | zero => exact absurd h2 (Nat.not_lt_zero _)
    | succ m =>
      cases e : f s with
      | inl s' =>
        obtain ⟨p', q⟩ := h s s' hP e
        rw [zw_l e, zw_l e]
        exact ih m s' p' (by omega) (by omega)
      | inr r => rw [zw_r e, zw_r e]
theorem be_dec {lo : Nat → Int32} {fro : Nat} (hY : mYR a Wd R nr nc nn) {s s' : Nat × (Nat → Int32)} (hL : mLP s.2) (e : mf_behindEnds_B2 a lo nn fro s = .inl s') : mLP s'.2 ∧ zEm a s'.2 nn s'.1 < zEm a s.2 nn s.1 := by
  unfold mf_behindEnds_B2 at e
  by_cases c1 : nn ≤ s.1
  · rw [if_pos c1] at e; cases e
  rw [if_neg c1] at e
  by_cases c2 : a (44 + (6 * s.1)) = 17
  · rw [if_pos c2] at e
    have hk : s.1 < nn := by omega
    have ho : (a (44 + 6 * s.1 + 4)).toNatClampNeg < 80 := by
      have h1 := ((hY.2.2.2 s.1 hk).2.2.2.1 c2).2.1
      have h2 := hY.2.2.1
      omega
    by_cases c3 : a (44 + (6 * (a (44 + (6 * s.1) + 4)).toNatClampNeg)) = 16
    · rw [if_pos c3] at e
      by_cases c4 : s.2 ((a (44 + (6 * s.1) + 4)).toNatClampNeg) ≤ 0
      · rw [if_pos c4] at e
        injection e with e
        subst e
        exact ⟨mLP_s hL ho, zEm_on hY hL hk c2 (Nat.lt_succ_self _)⟩
      · rw [if_neg c4] at e
        injection e with e
        subst e
        exact ⟨mLP_d hL ho (Int32.not_le.mp c4), zEm_again hY hL hk c2 (Int32.not_le.mp c4) (Nat.lt_succ_self _)⟩
    · rw [if_neg c3] at e
      injection e with e
      subst e
      exact ⟨mLP_s hL ho, zEm_on hY hL hk c2 (Nat.lt_succ_self _)⟩
  · rw [if_neg c2] at e; cases e
theorem be_l {lo lo' : Nat → Int32} {k k' : Nat} (hY : mYR a Wd R nr nc nn) (hL : mLP lo) (e : mf_behindEnds_B2 a lo nn k (k, lo) = .inl (k', lo')) : mf_behindEnds a lo nn k = mf_behindEnds a lo' nn k' := by
  have hd := be_dec hY (s := (k, lo)) hL e
  show zw (mf_behindEnds_B2 a lo nn k) (k, lo) (zEm a lo nn k + 1) (k, lo) = zw (mf_behindEnds_B2 a lo nn k) (k', lo') (zEm a lo' nn k' + 1) (k', lo')
  rw [zw_l e]
  exact zw_fu (f := mf_behindEnds_B2 a lo nn k) (fun s => mLP s.2) (fun s => zEm a s.2 nn s.1) (fun s s' hP h => be_dec hY hP h) _ _ _ hd.1 hd.2 (Nat.lt_succ_self _)
theorem be_r {lo lo' : Nat → Int32} {k k' : Nat} (e : mf_behindEnds_B2 a lo nn k (k, lo) = .inr (k', lo')) : mf_behindEnds a lo nn k = (k', lo') := by
  show zw (mf_behindEnds_B2 a lo nn k) (k, lo) (zEm a lo nn k + 1) (k, lo) = (k', lo')
  exact zw_r e
theorem be_no {lo : Nat → Int32} {k : Nat} (h : nn ≤ k ∨ ¬ a (44 + 6 * k) = 17) : mf_behindEnds a lo nn k = (k, lo) := by
  refine be_r ?_
  unfold mf_behindEnds_B2
  by_cases c : nn ≤ k
  · rw [if_pos c]
  · rw [if_neg c, if_neg (h.resolve_left c)]
theorem upd_id (lo : Nat → Int32) (o : Nat) : upd lo o (lo o - 0) = lo := by
  funext j
  by_cases q : j = o
  · subst q; rw [pk_us]; exact mLP_zero _
  · exact pk_un q
theorem be_when {lo : Nat → Int32} {k o : Nat} (hY : mYR a Wd R nr nc nn) (hL : mLP lo) (hk : k < nn) (h17 : a (44 + 6 * k) = 17) (ho : (a (44 + 6 * k + 4)).toNatClampNeg = o) (h16 : ¬ a (44 + 6 * o) = 16) : mf_behindEnds a lo nn k = mf_behindEnds a lo nn (k + 1) := by
  have e : mf_behindEnds_B2 a lo nn k (k, lo) = .inl (k + 1, upd lo o (lo o - 0)) := by
    unfold mf_behindEnds_B2
    rw [if_neg (show ¬ nn ≤ k by omega), if_pos h17]
    dsimp only
    rw [ho, if_neg h16]
  have := be_l hY hL e
  rw [upd_id] at this
  exact this
theorem be_done {lo : Nat → Int32} {k o : Nat} (hY : mYR a Wd R nr nc nn) (hL : mLP lo) (hk : k < nn) (h17 : a (44 + 6 * k) = 17) (ho : (a (44 + 6 * k + 4)).toNatClampNeg = o) (h16 : a (44 + 6 * o) = 16) (h0 : lo o ≤ 0) : mf_behindEnds a lo nn k = mf_behindEnds a lo nn (k + 1) := by
  have e : mf_behindEnds_B2 a lo nn k (k, lo) = .inl (k + 1, upd lo o (lo o - 0)) := by
    unfold mf_behindEnds_B2
    rw [if_neg (show ¬ nn ≤ k by omega), if_pos h17]
    dsimp only
    rw [ho, if_pos h16, if_pos h0]
  have := be_l hY hL e
  rw [upd_id] at this
  exact this
theorem be_again {lo : Nat → Int32} {k o : Nat} (hY : mYR a Wd R nr nc nn) (hL : mLP lo) (hk : k < nn) (h17 : a (44 + 6 * k) = 17) (ho : (a (44 + 6 * k + 4)).toNatClampNeg = o) (h16 : a (44 + 6 * o) = 16) (h0 : ¬ lo o ≤ 0) : mf_behindEnds a lo nn k = mf_behindEnds a (upd lo o (lo o - 1)) nn (o + 1) := by
  have e : mf_behindEnds_B2 a lo nn k (k, lo) = .inl (o + 1, upd lo o (lo o - 1)) := by
    unfold mf_behindEnds_B2
    rw [if_neg (show ¬ nn ≤ k by omega), if_pos h17]
    dsimp only
    rw [ho, if_pos h16, if_neg h0]
  exact be_l hY hL e
abbrev lvA : Type := (Nat × Int32 × Nat × (Nat → Int32) × (Nat → Int32) × (Nat → Int32) × (Nat → Int32)) ⊕ (Int32 × Int32 × (Nat → Int32) × (Nat → Int32) × (Nat → Int32) × (Nat → Int32))
theorem lvB_rs {s s' : Nat × Int32 × Nat × (Nat → Int32) × (Nat → Int32) × (Nat → Int32) × (Nat → Int32)} (e : mf_lives_B32 Wd R nr nc nn s = .inl s') : ¬ s.2.2.1 = 300 ∧ s'.2.2.1 = s.2.2.1 + 1 := by
  unfold mf_lives_B32 at e
  simp only [zlet] at e
  repeat' split at e
  all_goals first
    | (injection e with e; subst e; exact ⟨by assumption, rfl⟩)
    | cases e
theorem lv_l {s s' : Nat × Int32 × Nat × (Nat → Int32) × (Nat → Int32) × (Nat → Int32) × (Nat → Int32)} (h : s.2.2.1 ≤ 300) (e : mf_lives_B32 Wd R nr nc nn s = .inl s') : mf_lives_L32 Wd R nr nc nn s = mf_lives_L32 Wd R nr nc nn s' := by
  obtain ⟨q1, q2⟩ := lvB_rs e
  unfold mf_lives_L32
  rw [zw_l e]
  exact zw_fu (f := mf_lives_B32 Wd R nr nc nn) (fun s => s.2.2.1 ≤ 300) (fun s => 300 - s.2.2.1) (fun s s' hP h => by
    obtain ⟨r1, r2⟩ := lvB_rs h
    exact ⟨by omega, by omega⟩) _ _ _ (by omega) (by omega) (Nat.lt_succ_self _)
theorem lv_r {s : Nat × Int32 × Nat × (Nat → Int32) × (Nat → Int32) × (Nat → Int32) × (Nat → Int32)} {r : lvA} (e : mf_lives_B32 Wd R nr nc nn s = .inr r) : mf_lives_L32 Wd R nr nc nn s = r := by
  unfold mf_lives_L32
  exact zw_r e
/-- the table's run from a row on, ends not yet gone behind -/
def lvF (Wd R nr nc nn k : Nat) (dr : Int32) (rs : Nat) (a b lo ra : Nat → Int32) : lvA := zlet (mf_behindEnds a lo nn k) (fun t => mf_lives_L32 Wd R nr nc nn (t.1, dr, rs, a, b, t.2, ra))
variable {k rs : Nat} {dr : Int32} {lo ra : Nat → Int32}
theorem lvF_at (h : nn ≤ k ∨ ¬ a (44 + 6 * k) = 17) : lvF Wd R nr nc nn k dr rs a b lo ra = mf_lives_L32 Wd R nr nc nn (k, dr, rs, a, b, lo, ra) := by
  unfold lvF
  rw [be_no h]
  rfl
theorem lvF_end : lvF Wd R nr nc nn nn dr rs a b lo ra = .inl (nn, dr, rs, a, b, lo, ra) := by
  rw [lvF_at (Or.inl (Nat.le_refl _))]
  refine lv_r ?_
  unfold mf_lives_B32
  rw [if_pos (show nn ≤ nn from Nat.le_refl _)]
theorem lvF_300 (hk : k < nn) (h17 : ¬ a (44 + 6 * k) = 17) (h3 : rs = 300) : lvF Wd R nr nc nn k dr rs a b lo ra = .inr (dr, nI rs, a, b, lo, upd ra 4 1) := by
  rw [lvF_at (Or.inr h17)]
  refine lv_r ?_
  unfold mf_lives_B32
  rw [if_neg (show ¬ nn ≤ k by omega), if_pos (show rs = 300 from h3)]
theorem lvF_stop (hk : k < nn) (h18 : a (44 + 6 * k) = 18) (h3 : ¬ rs = 300) : lvF Wd R nr nc nn k dr rs a b lo ra = .inr (dr, nI (rs + 1), a, b, lo, ra) := by
  rw [lvF_at (Or.inr (by rw [h18]; decide))]
  refine lv_r ?_
  unfold mf_lives_B32
  rw [if_neg (show ¬ nn ≤ k by omega), if_neg (show ¬ rs = 300 from h3), if_pos (show a (44 + 6 * k) = 18 from h18)]
theorem lvF_act {t : Bool × Int32 × (Nat → Int32) × (Nat → Int32) × (Nat → Int32)} (hk : k < nn) (h3 : ¬ rs = 300) (hr : rs ≤ 300) (h17 : ¬ a (44 + 6 * k) = 17) (h18 : ¬ a (44 + 6 * k) = 18) (h16 : ¬ a (44 + 6 * k) = 16) (hlt : a (44 + 6 * k) < 1500) (ht : mf_does dr a b ra Wd R nr nc k = t) (hs : t.2.2.1 (44 + 6 * k) = a (44 + 6 * k)) : lvF Wd R nr nc nn k dr rs a b lo ra = lvF Wd R nr nc nn (k + 1) t.2.1 (rs + 1) t.2.2.1 t.2.2.2.1 lo (upd t.2.2.2.2 0 (ra 0 + (if t.1 = true then 0 else 1))) := by
  rw [lvF_at (Or.inr h17)]
  unfold lvF
  refine lv_l hr ?_
  unfold mf_lives_B32
  rw [if_neg (show ¬ nn ≤ k by omega), if_neg (show ¬ rs = 300 from h3), if_neg (show ¬ a (44 + 6 * k) = 18 from h18)]
  dsimp only
  rw [ht]
  unfold zlet
  dsimp only
  rw [hs]
  by_cases c : t.1 = true
  · rw [if_pos c, if_neg h16, if_pos hlt, if_pos c]
  · rw [if_neg c, if_neg h16, if_pos hlt, if_neg c]
theorem does_no (h : a (44 + 6 * k) = 16 ∨ 1500 ≤ a (44 + 6 * k)) : mf_does dr a b ra Wd R nr nc k = (true, dr, a, b, ra) := by
  have hz : ∀ n : Nat, n < 16 → ¬ a (44 + 6 * k) = nI n := fun n hn q => by
    rcases h with h | h
    · rw [h] at q
      have := (nI_eq (a := 16) (b := n) (by omega) (by omega)).mp q
      omega
    · rw [q] at h
      exact nI_ge (a := n) (b := 1500) (by omega) (by decide) h
  unfold mf_does
  rw [if_neg (show ¬ a (44 + 6 * k) = 9 from hz 9 (by omega)), if_neg (show ¬ a (44 + 6 * k) = 10 from hz 10 (by omega)), if_neg (show ¬ a (44 + 6 * k) = 11 from hz 11 (by omega)), if_neg (show ¬ a (44 + 6 * k) = 12 from hz 12 (by omega)), if_neg (show ¬ a (44 + 6 * k) = 13 from hz 13 (by omega)), if_neg (show ¬ a (44 + 6 * k) = 14 from hz 14 (by omega))]
theorem lvF_loop (hk : k < nn) (h3 : ¬ rs = 300) (hr : rs ≤ 300) (h16 : a (44 + 6 * k) = 16) : lvF Wd R nr nc nn k dr rs a b lo ra = lvF Wd R nr nc nn (k + 1) dr (rs + 1) a b (upd lo k (a (44 + 6 * k + 1) - 1)) (upd ra 0 (ra 0 + 0)) := by
  rw [lvF_at (Or.inr (by rw [h16]; decide))]
  unfold lvF
  refine lv_l hr ?_
  unfold mf_lives_B32
  rw [if_neg (show ¬ nn ≤ k by omega), if_neg (show ¬ rs = 300 from h3), if_neg (show ¬ a (44 + 6 * k) = 18 by rw [h16]; decide)]
  dsimp only
  rw [does_no (Or.inl h16)]
  unfold zlet
  dsimp only
  rw [if_pos rfl, if_pos h16, if_pos (by rw [h16]; decide)]
theorem lvF_when {t : Bool × (Nat → Int32)} {c : Nat} (hk : k < nn) (h3 : ¬ rs = 300) (hr : rs ≤ 300) (hge : 1500 ≤ a (44 + 6 * k)) (ht : mf_holds a b Wd R k = t) (hc : (a (44 + 6 * k + 4)).toNatClampNeg = c) : lvF Wd R nr nc nn k dr rs a b lo ra = lvF Wd R nr nc nn ((if t.1 = true then k else c) + 1) dr (rs + 1) a t.2 lo (upd ra 0 (ra 0 + 0)) := by
  have hz : ∀ n : Nat, n < 1500 → ¬ a (44 + 6 * k) = nI n := fun n hn q => by
    rw [q] at hge
    exact nI_ge (a := n) (b := 1500) hn (by decide) hge
  rw [lvF_at (Or.inr (hz 17 (by omega)))]
  unfold lvF
  refine lv_l hr ?_
  unfold mf_lives_B32
  rw [if_neg (show ¬ nn ≤ k by omega), if_neg (show ¬ rs = 300 from h3), if_neg (show ¬ a (44 + 6 * k) = 18 from hz 18 (by omega))]
  dsimp only
  rw [does_no (Or.inr hge)]
  unfold zlet
  dsimp only
  rw [if_pos rfl, if_neg (show ¬ a (44 + 6 * k) = 16 from hz 16 (by omega)), if_neg (show ¬ a (44 + 6 * k) < 1500 from Int32.not_lt.mpr hge), ht, hc]
  by_cases q : t.1 = true
  · rw [if_pos q, if_pos q]
  · rw [if_neg q, if_neg q]
end R20
