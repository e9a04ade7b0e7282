/-- a row of the year: what its numbers may be -/
def mROW (a : Nat → Int32) (nr nn k : Nat) : Prop := (a (44 + 6 * k) = 9 → ¬ a (44 + 6 * k + 1) < 0 ∧ (a (44 + 6 * k + 1)).toNatClampNeg ≤ 99) ∧ (a (44 + 6 * k) = 11 → ¬ a (44 + 6 * k + 1) < 0 ∧ (a (44 + 6 * k + 1)).toNatClampNeg < nr) ∧ (a (44 + 6 * k) = 16 → ∃ v, a (44 + 6 * k + 1) = nI (v + 1) ∧ v ≤ 98) ∧ (a (44 + 6 * k) = 17 → ¬ a (44 + 6 * k + 4) < 0 ∧ (a (44 + 6 * k + 4)).toNatClampNeg < k ∧ (a (44 + 6 * ((a (44 + 6 * k + 4)).toNatClampNeg + 1)) = 17 → (a (44 + 6 * k + 4)).toNatClampNeg + 1 = k)) ∧ (1500 ≤ a (44 + 6 * k) → ¬ a (44 + 6 * k + 4) < 0 ∧ (a (44 + 6 * k + 4)).toNatClampNeg < nn)
def mYR (a : Nat → Int32) (Wd R nr nc nn : Nat) : Prop := mOK a Wd R nr nc ∧ a 11 = nI nn ∧ nn ≤ 60 ∧ ∀ k, k < nn → mROW a nr nn k
theorem mYR_G {a : Nat → Int32} {Wd R nr nc nn : Nat} (h : mYR a Wd R nr nc nn) : mOK a Wd R nr nc := h.1
theorem mYR_w {a : Nat → Int32} {Wd R nr nc nn : Nat} (h : mYR a Wd R nr nc nn) : a 0 = nI Wd := mOK_w h.1
theorem mYR_r {a : Nat → Int32} {Wd R nr nc nn : Nat} (h : mYR a Wd R nr nc nn) : a 1 = nI R := mOK_r h.1
theorem mYR_nr {a : Nat → Int32} {Wd R nr nc nn : Nat} (h : mYR a Wd R nr nc nn) : a 5 = nI nr := mOK_nr h.1
theorem mYR_nc {a : Nat → Int32} {Wd R nr nc nn : Nat} (h : mYR a Wd R nr nc nn) : a 6 = nI nc := mOK_nc h.1
theorem mYR_n {a : Nat → Int32} {Wd R nr nc nn : Nat} (h : mYR a Wd R nr nc nn) : a 11 = nI nn := h.2.1
theorem mROW_same {a b : Nat → Int32} {nr nn k : Nat} (hk : k < 60) (h : mROW a nr nn k) (e : ∀ j, 44 ≤ j → j < 404 → b j = a j) : mROW b nr nn k := by
  obtain ⟨h1, h2, h3, h4, h5⟩ := h
  have e0 := e (44 + 6 * k) (by omega) (by omega)
  have e1 := e (44 + 6 * k + 1) (by omega) (by omega)
  have e4 := e (44 + 6 * k + 4) (by omega) (by omega)
  refine ⟨?_, ?_, ?_, ?_, ?_⟩
  · rw [e0, e1]; exact h1
  · rw [e0, e1]; exact h2
  · rw [e0, e1]; exact h3
  · rw [e0, e4]
    intro q
    obtain ⟨r1, r2, r3⟩ := h4 q
    refine ⟨r1, r2, ?_⟩
    rw [e (44 + 6 * ((a (44 + 6 * k + 4)).toNatClampNeg + 1)) (by omega) (by omega)]
    exact r3
  · rw [e0, e4]; exact h5
theorem mYR_same {a b : Nat → Int32} {Wd R nr nc nn : Nat} (h : mYR a Wd R nr nc nn) (hG : mOK b Wd R nr nc) (e : ∀ j, (j = 11 ∨ (44 ≤ j ∧ j < 404)) → b j = a j) : mYR b Wd R nr nc nn :=
  ⟨hG, by rw [e 11 (by omega)]; exact h.2.1, h.2.2.1, fun k hk => mROW_same (Nat.lt_of_lt_of_le hk h.2.2.1) (h.2.2.2 k hk) (fun j h1 h2 => e j (Or.inr ⟨h1, h2⟩))⟩
theorem mYR_eq {a b : Nat → Int32} {Wd R nr nc nn : Nat} (h : mYR a Wd R nr nc nn) (e : ∀ j, j < 404 → b j = a j) : mYR b Wd R nr nc nn := by
  refine mYR_same h ?_ (fun j hj => e j (by omega))
  have hG := h.1
  unfold mOK at hG ⊢
  rw [e 0 (by omega), e 1 (by omega), e 5 (by omega), e 6 (by omega), e 10 (by omega)]
  exact hG
theorem mYR_u {a : Nat → Int32} {Wd R nr nc nn k : Nat} {x : Int32} (h : mYR a Wd R nr nc nn) (hk : (2 ≤ k ∧ k ≤ 4) ∨ (7 ≤ k ∧ k ≤ 9) ∨ (12 ≤ k ∧ k < 44) ∨ 404 ≤ k) : mYR (upd a k x) Wd R nr nc nn :=
  mYR_same h (mOK_u h.1 (by omega)) (fun j hj => pk_un (by omega))
theorem mYR_b {a : Nat → Int32} {Wd R nr nc nn : Nat} {x : Int32} (h : mYR a Wd R nr nc nn) (hx : ¬ x < 0 ∧ x.toNatClampNeg < nr) : mYR (upd a 10 x) Wd R nr nc nn :=
  mYR_same h (mOK_ub h.1 (Or.inr hx)) (fun j hj => pk_un (by omega))
/-- the neighbours of a place, without the houses -/
def zN (j : Bool) (Wd R kk : Nat) : Int32 :=
  (((if kk < Wd then (0 : Int32) else (1 : Int32) <<< ((nI (kk - Wd)) &&& 31)) ||| (if Wd * R ≤ kk + Wd then (0 : Int32) else (1 : Int32) <<< ((nI (kk + Wd)) &&& 31))) ||| (if kk % Wd = 0 then (if j then (1 : Int32) <<< ((nI (kk + Wd - 1)) &&& 31) else 0) else (1 : Int32) <<< ((nI (kk - 1)) &&& 31))) ||| (if Wd ≤ kk % Wd + 1 then (if j then (1 : Int32) <<< ((((nI kk) - (nI Wd)) + 1) &&& 31) else 0) else (1 : Int32) <<< ((nI (kk + 1)) &&& 31))
theorem z_or0 (a b : Int32) (h : b = 0) : a ||| b = a := by rw [h]; exact Int32.or_zero
theorem mf_near_eq (m_at : Nat → Int32) (Wd R kk : Nat) : mf_near m_at Wd R kk = zN (decide (m_at 9 = 1)) Wd R kk &&& m_at 2 := by
  unfold mf_near zN
  by_cases h1 : kk < Wd <;> (first | simp only [if_pos h1] | simp only [if_neg h1]) <;> by_cases h2 : Wd * R ≤ kk + Wd <;> (first | simp only [if_pos h2] | simp only [if_neg h2]) <;> by_cases h3 : kk % Wd = 0 <;> (first | simp only [if_pos h3] | simp only [if_neg h3]) <;> by_cases h4 : m_at 9 = 1 <;> (first | simp only [if_pos h4] | simp only [if_neg h4]) <;> (first | simp only [decide_eq_true h4, if_true] | simp only [decide_eq_false h4, Bool.false_eq_true, if_false]) <;> by_cases h5 : Wd ≤ kk % Wd + 1 <;> (first | simp only [if_pos h5] | simp only [if_neg h5]) <;> simp only [Int32.zero_or, Int32.or_zero]
theorem zN_4 : ∀ j : Bool, ∀ Wd, Wd < 6 → ∀ R, R < 7 → ∀ kk, kk < 30 → zpcF 32 (zN j Wd R kk).toBitVec.toNat ≤ 4 := by decide +kernel
theorem zN_le {j : Bool} {Wd R kk : Nat} (hW : Wd < 6) (hR : R < 7) (hk : kk < 30) : zpc (zN j Wd R kk) ≤ 4 := by rw [zpc_u]; exact zN_4 j Wd hW R hR kk hk
theorem mf_near_le (m_at : Nat → Int32) {Wd R kk : Nat} (hW : Wd < 6) (hR : R < 7) (hk : kk < 30) (x : Int32) : zpc (mf_near m_at Wd R kk &&& x) ≤ 4 := by
  rw [mf_near_eq, Int32.and_assoc, Int32.and_comm]
  exact Nat.le_trans (zpc_and_r _ _) (zN_le hW hR hk)
theorem mf_laysNear_at (m_at b : Nat → Int32) (Wd R k : Nat) : mf_laysNear m_at b Wd R k = if k < Wd * R then mf_near m_at Wd R k else b k := by
  have key : ∀ n, zf (mf_laysNear_B2 m_at Wd R) b n k = if k < n then mf_near m_at Wd R k else b k := by
    intro n
    induction n with
    | zero => rw [if_neg (by omega)]; rfl
    | succ n ih =>
      show upd (zf (mf_laysNear_B2 m_at Wd R) b n) n (mf_near m_at Wd R n) k = _
      by_cases h : k = n
      · rw [h, if_pos (by omega)]; exact pk_us
      · rw [pk_un h, ih]
        by_cases q : k < n
        · rw [if_pos q, if_pos (by omega)]
        · rw [if_neg q, if_neg (by omega)]
  exact key (Wd * R)
theorem mf_goes_keep {m_at m_beside : Nat → Int32} {Wd R : Nat} (hW : Wd < 6) (hR : R < 7) (hWR : Wd * R ≤ 30) (j : Nat) (hj : j = 11 ∨ 44 ≤ j) : (mf_goes m_at m_beside Wd R).1 j = m_at j := by
  have key : ∀ n, n ≤ Wd * R → zf (mf_goes_B24 m_at Wd R (mf_laysNear m_at m_beside Wd R)) m_at n j = m_at j := by
    intro n
    induction n with
    | zero => intro _; rfl
    | succ n ih =>
      intro hn
      show mf_goes_B24 m_at Wd R (mf_laysNear m_at m_beside Wd R) n _ j = _
      generalize zf (mf_goes_B24 m_at Wd R (mf_laysNear m_at m_beside Wd R)) m_at n = s at ih ⊢
      unfold mf_goes_B24
      by_cases c : (((mf_free s) >>> ((nI n) &&& 31)) &&& 1) = 0
      · rw [if_pos c]; exact ih (by omega)
      · rw [if_neg c, pk_un (by
          have h1 := z_b1le ((s 3) >>> ((nI n) &&& 31))
          have h2 : zpc (mf_laysNear m_at m_beside Wd R n &&& s 3) ≤ 4 := by
            rw [mf_laysNear_at, if_pos (by omega)]
            exact mf_near_le m_at hW hR (by omega) _
          omega)]
        exact ih (by omega)
  show upd (upd (upd (zf (mf_goes_B24 m_at Wd R (mf_laysNear m_at m_beside Wd R)) m_at (Wd * R)) 8 _) 3 _) 7 _ j = _
  rw [pk_un (by omega), pk_un (by omega), pk_un (by omega)]
  exact key _ (Nat.le_refl _)
theorem goes_Y {a m_beside : Nat → Int32} {Wd R nr nc nn : Nat} {t : (Nat → Int32) × (Nat → Int32)} (h : mYR a Wd R nr nc nn) (hG : mOK t.1 Wd R nr nc) (e : mf_goes a m_beside Wd R = t) : mYR t.1 Wd R nr nc nn := by
  subst e
  have q5 := mOK_W5 h.1
  have q6 := mOK_R6 h.1
  exact mYR_same h hG (fun j hj => mf_goes_keep (by omega) (by omega) (mOK_WR h.1) j (by omega))
theorem elects_Y {a m_beside : Nat → Int32} {Wd R nr nc nn : Nat} {t : Bool × (Nat → Int32) × (Nat → Int32)} (h : mYR a Wd R nr nc nn) (hG : mOK t.2.1 Wd R nr nc) (e : mf_elects a m_beside Wd R nr nc = t) : mYR t.2.1 Wd R nr nc nn := by
  subst e
  refine mYR_same h hG (fun j hj => ?_)
  unfold mf_elects
  by_cases c1 : nr = 0
  · rw [if_pos c1]
  · rw [if_neg c1]
    by_cases c2 : nc = 0
    · rw [if_pos c2]
    · rw [if_neg c2]
      exact pk_un (by omega)

