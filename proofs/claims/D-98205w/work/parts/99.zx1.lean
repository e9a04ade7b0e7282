/-! r34: a town settles: what lies beside a cell, on both sides -/
section R34
variable {Wd R : Nat} {h : Int32} {ring : Bool}
theorem and_m1 (a h : Int32) : (a &&& (-1)) &&& h = a &&& h := by
  refine b_ext fun i hi => ?_
  rw [b_and, b_and, b_and, b_m1 i hi, Bool.and_true]
theorem z_and0 (h : Int32) : (0 : Int32) &&& h = 0 := by
  refine b_ext fun i hi => ?_
  rw [b_and, b_0, Bool.false_and]
theorem bit_h (x y : Int32) : tf_bit Wd R h ring x y = tf_bit Wd R (-1) ring x y &&& h := by
  unfold tf_bit
  repeat' split
  all_goals first
    | exact (z_and0 h).symm
    | exact (and_m1 _ h).symm
theorem or4_and (a b c d h : Int32) : (((a &&& h) ||| (b &&& h)) ||| (c &&& h)) ||| (d &&& h) = (((a ||| b) ||| c) ||| d) &&& h := by
  refine b_ext fun i hi => ?_
  simp only [b_and, b_or]
  cases bt a i <;> cases bt b i <;> cases bt c i <;> cases bt d i <;> cases bt h i <;> rfl
theorem mask_all : ∀ ring : Bool, ∀ Wd, Wd < 6 → ∀ R, R < 7 → ∀ y, y < R → ∀ x, x < Wd → ((((tf_bit Wd R (-1) ring ((nI x) - 1) (nI y)) ||| (tf_bit Wd R (-1) ring (nI (x + 1)) (nI y))) ||| (tf_bit Wd R (-1) ring (nI x) ((nI y) - 1))) ||| (tf_bit Wd R (-1) ring (nI x) (nI (y + 1)))) = zN (tf_joins Wd ring) Wd R (Wd * y + x) := by decide +kernel
theorem settle_in (b : Nat → Int32) (y : Nat) (hW : Wd < 6) (hR : R < 7) (hy : y < R) : ∀ n, n ≤ Wd → (∀ j, ¬ (Wd * y ≤ j ∧ j < Wd * y + n) → zf (tf_settles_B12 Wd R h ring y) b n j = b j) ∧ ∀ x, x < n → zf (tf_settles_B12 Wd R h ring y) b n (Wd * y + x) = zN (tf_joins Wd ring) Wd R (Wd * y + x) &&& h := by
  intro n
  induction n with
  | zero => exact fun _ => ⟨fun _ _ => rfl, fun x hx => absurd hx (Nat.not_lt_zero _)⟩
  | succ n ih =>
    intro hn
    obtain ⟨i1, i2⟩ := ih (by omega)
    have ev : ((((tf_bit Wd R h ring ((nI n) - 1) (nI y)) ||| (tf_bit Wd R h ring (nI (n + 1)) (nI y))) ||| (tf_bit Wd R h ring (nI n) ((nI y) - 1))) ||| (tf_bit Wd R h ring (nI n) (nI (y + 1)))) = zN (tf_joins Wd ring) Wd R (Wd * y + n) &&& h := by
      rw [bit_h (h := h) ((nI n) - 1) (nI y), bit_h (h := h) (nI (n + 1)) (nI y), bit_h (h := h) (nI n) ((nI y) - 1), bit_h (h := h) (nI n) (nI (y + 1)), or4_and, mask_all ring Wd hW R hR y hy n (by omega)]
    show (∀ j, ¬ (Wd * y ≤ j ∧ j < Wd * y + (n + 1)) → upd (zf (tf_settles_B12 Wd R h ring y) b n) (Wd * y + n) ((((tf_bit Wd R h ring ((nI n) - 1) (nI y)) ||| (tf_bit Wd R h ring (nI (n + 1)) (nI y))) ||| (tf_bit Wd R h ring (nI n) ((nI y) - 1))) ||| (tf_bit Wd R h ring (nI n) (nI (y + 1)))) j = b j) ∧ ∀ x, x < n + 1 → upd (zf (tf_settles_B12 Wd R h ring y) b n) (Wd * y + n) ((((tf_bit Wd R h ring ((nI n) - 1) (nI y)) ||| (tf_bit Wd R h ring (nI (n + 1)) (nI y))) ||| (tf_bit Wd R h ring (nI n) ((nI y) - 1))) ||| (tf_bit Wd R h ring (nI n) (nI (y + 1)))) (Wd * y + x) = zN (tf_joins Wd ring) Wd R (Wd * y + x) &&& h
    rw [ev]
    refine ⟨fun j hj => (pk_un (by omega)).trans (i1 j (by omega)), fun x hx => ?_⟩
    by_cases e : x = n
    · subst e; exact pk_us
    · rw [pk_un (by omega)]; exact i2 x (by omega)
theorem settle_out (b : Nat → Int32) (hW : Wd < 6) (hR : R < 7) : ∀ n, n ≤ R → ∀ y, y < n → ∀ x, x < Wd → zf (tf_settles_B2 Wd R h ring) b n (Wd * y + x) = zN (tf_joins Wd ring) Wd R (Wd * y + x) &&& h := by
  intro n
  induction n with
  | zero => exact fun _ y hy => absurd hy (Nat.not_lt_zero _)
  | succ n ih =>
    intro hn y hy x hx
    obtain ⟨i1, i2⟩ := settle_in (h := h) (ring := ring) (zf (tf_settles_B2 Wd R h ring) b n) n hW hR (by omega) Wd (Nat.le_refl _)
    show zf (tf_settles_B12 Wd R h ring n) (zf (tf_settles_B2 Wd R h ring) b n) Wd (Wd * y + x) = _
    by_cases e : y = n
    · subst e; exact i2 x hx
    · have h1 : Wd * (y + 1) ≤ Wd * n := Nat.mul_le_mul_left _ (by omega)
      rw [Nat.mul_succ] at h1
      rw [i1 _ (by omega)]
      exact ih (by omega) y (by omega) x hx
theorem settles_at (b : Nat → Int32) (hW0 : 1 ≤ Wd) (hW : Wd < 6) (hR : R < 7) {k : Nat} (hk : k < Wd * R) : tf_settles Wd R h ring b k = zN (tf_joins Wd ring) Wd R k &&& h := by
  have e := Nat.div_add_mod k Wd
  have h1 : k / Wd < R := Nat.div_lt_of_lt_mul hk
  have h2 : k % Wd < Wd := Nat.mod_lt _ hW0
  have q := settle_out (h := h) (ring := ring) b hW hR R (Nat.le_refl _) (k / Wd) h1 (k % Wd) h2
  rw [e] at q
  exact q
theorem settles_near {a : Nat → Int32} (b : Nat → Int32) (hW0 : 1 ≤ Wd) (hW : Wd < 6) (hR : R < 7) (h2 : a 2 = h) (h9 : a 9 = if tf_joins Wd ring = true then 1 else 0) {k : Nat} (hk : k < Wd * R) : tf_settles Wd R h ring b k = mf_near a Wd R k := by
  rw [settles_at b hW0 hW hR hk, mf_near_eq, h2]
  have e : decide (a 9 = 1) = tf_joins Wd ring := by
    rw [h9]
    cases tf_joins Wd ring <;> rfl
  rw [e]
end R34
