/-! r31: an optional set of numbers, a rule -/
section R31
variable {tape text : Nat → Int32} {zs : Nat} {ra rb fr en : Nat} {sort num bk bp tk val fp : Int32} {at_ : Nat → Int32} {names trn cn : Nat → Int64} {nr nc : Nat}
theorem upd_same {f : Nat → Int32} {o : Nat} {v : Int32} (h : f o = v) : upd f o v = f := by
  funext j
  by_cases e : j = o
  · subst e; rw [pk_us, h]
  · exact pk_un e
/-- the model's 'if the word is there, its numbers' -/
def mSet (zs : Nat) (tk : Int32) (fr en : Nat) (val fp : Int32) (at_ text : Nat → Int32) (to : Nat) (wk : Int32) : Bool × Int32 × Nat × Nat × Int32 × Int32 × Int32 × (Nat → Int32) :=
  if (mf_isThere zs tk fr en val text wk).1 = true then mf_neighbours zs (mf_isThere zs tk fr en val text wk).2.1 (mf_isThere zs tk fr en val text wk).2.2.1 (mf_isThere zs tk fr en val text wk).2.2.2.1 (mf_isThere zs tk fr en val text wk).2.2.2.2 fp 0 at_ text to else (true, (mf_isThere zs tk fr en val text wk).2.1, (mf_isThere zs tk fr en val text wk).2.2.1, (mf_isThere zs tk fr en val text wk).2.2.2.1, (mf_isThere zs tk fr en val text wk).2.2.2.2, fp, 0, at_)
theorem set_eq {to wi : Nat} (h : pTx tape text zs) (h9 : zs ≤ 900) (hk : pTk tape zs (ra, rb, sort, num) (tk, fr, en, val)) (hw : wi < 22) (h0 : at_ to = 0) : pRd tape zs fr ((rf_set zs ra rb sort num tape bk bp wi).1, (rf_set zs ra rb sort num tape bk bp wi).2.2) ((mSet zs tk fr en val fp at_ text to (nI (xWo wi))).1, (mSet zs tk fr en val fp at_ text to (nI (xWo wi))).2.1, (mSet zs tk fr en val fp at_ text to (nI (xWo wi))).2.2.1, (mSet zs tk fr en val fp at_ text to (nI (xWo wi))).2.2.2.1, (mSet zs tk fr en val fp at_ text to (nI (xWo wi))).2.2.2.2.1, (mSet zs tk fr en val fp at_ text to (nI (xWo wi))).2.2.2.2.2.1, (mSet zs tk fr en val fp at_ text to (nI (xWo wi))).2.2.2.2.2.2.1) ∧ ((mSet zs tk fr en val fp at_ text to (nI (xWo wi))).1 = true → (mSet zs tk fr en val fp at_ text to (nI (xWo wi))).2.2.2.2.2.2.2 = upd at_ to (rf_set zs ra rb sort num tape bk bp wi).2.1) := by
  by_cases c : rf_isWord ra rb sort tape wi = true
  · have em : mSet zs tk fr en val fp at_ text to (nI (xWo wi)) = mf_neighbours zs (mf_onward zs en text).1 (mf_onward zs en text).2.1 (mf_onward zs en text).2.2.1 (mf_onward zs en text).2.2.2 fp 0 at_ text to := by
      unfold mSet
      rw [there_t h h9 hk hw c, if_pos rfl]
    have ex : rf_set zs ra rb sort num tape bk bp wi = zcase (rf_set_L16 zs tape (rf_next zs rb num tape) (0, (rf_next zs rb num tape).1, (rf_next zs rb num tape).2.1, (rf_next zs rb num tape).2.2.1, (rf_next zs rb num tape).2.2.2, bk, bp)) (fun t_3 => (true, t_3.1, t_3.2.1, t_3.2.2.1, t_3.2.2.2.1, t_3.2.2.2.2.1, t_3.2.2.2.2.2.1, t_3.2.2.2.2.2.2)) (fun r => r) := by
      unfold rf_set
      rw [if_pos c]
      rfl
    obtain ⟨q1, q2⟩ := next_tk (num := num) h h9 hk.2.1 hk.2.2.2.1
    have hfe := hk.2.2.1
    rw [em, ex]
    generalize rf_next zs rb num tape = x at q1 ⊢
    generalize mf_onward zs en text = m at q1 q2 ⊢
    obtain ⟨x1, x2, x3, x4⟩ := x
    obtain ⟨m1, m2, m3, m4⟩ := m
    dsimp only at q2 hfe ⊢
    by_cases g : m1 = 3
    · subst g
      have e0 : at_ = upd at_ to 0 := (upd_same h0).symm
      have en3 : mf_neighbours zs 3 m2 m3 m4 fp 0 at_ text to = zcase (zw (mf_neighbours_B14 zs 3 m3 fp 0 text to) (.inl (3, m2, m3, m4, at_)) ((2 * (zs - m3) + (if (3 : Int32) = 0 then 0 else 1)) + 1) (3, m2, m3, m4, upd at_ to 0)) (fun t_2 => (true, t_2.1, t_2.2.1, t_2.2.2.1, t_2.2.2.2.1, fp, 0, t_2.2.2.2.2)) (fun r => r) := by
        rw [← e0]
        unfold mf_neighbours
        rw [if_pos rfl]
        rfl
      rw [en3]
      obtain ⟨r1, r2⟩ := set_run (at_ := at_) (to := to) (bk := bk) (bp := bp) (fp := fp) h h9 (x1, x2, x3, x4) 3 m3 (.inl (0, x1, x2, x3, x4, bk, bp)) (.inl (3, m2, m3, m4, at_)) ((zs - x1) + 1) ((2 * (zs - m3) + (if (3 : Int32) = 0 then 0 else 1)) + 1) x1 x2 x3 x4 m2 m3 m4 0 q1 (Nat.lt_succ_self _) (by rw [if_neg (by decide)]; omega)
      refine ⟨⟨r1.1, fun q => ?_, r1.2.2⟩, r2⟩
      obtain ⟨s1, s2, s3⟩ := r1.2.1 q
      have := q1.2.2.1
      dsimp only at this
      exact ⟨s1, s2, by omega⟩
    · have hx3 : ¬ x3 = 2 := by
        intro q
        obtain ⟨-, -, -, -, j5⟩ := q1
        dsimp only at j5
        rcases j5 with ⟨b1, -⟩ | ⟨b1, -⟩ | ⟨-, b2, -⟩ | ⟨b1, -⟩ | ⟨b1, -⟩
        · exact absurd (b1.symm.trans q) (by decide)
        · exact absurd (b1.symm.trans q) (by decide)
        · exact g b2
        · exact absurd (b1.symm.trans q) (by decide)
        · exact absurd (b1.symm.trans q) (by decide)
      have en3 : mf_neighbours zs m1 m2 m3 m4 fp 0 at_ text to = ((mf_fails m1 m2 fp 0 2).1, m1, m2, m3, m4, (mf_fails m1 m2 fp 0 2).2.1, (mf_fails m1 m2 fp 0 2).2.2, at_) := by
        unfold mf_neighbours zlet
        rw [if_neg g]
      have ex3 : zcase (rf_set_L16 zs tape (x1, x2, x3, x4) (0, x1, x2, x3, x4, bk, bp)) (fun t_3 => (true, t_3.1, t_3.2.1, t_3.2.2.1, t_3.2.2.2.1, t_3.2.2.2.2.1, t_3.2.2.2.2.2.1, t_3.2.2.2.2.2.2)) (fun r => r) = (false, 0, x1, x2, x3, x4, (rf_wrong x1 x3).1, (rf_wrong x1 x3).2) := by
        unfold rf_set_L16
        rw [zw_r (show rf_set_B16 zs tape (x1, x2, x3, x4) (0, x1, x2, x3, x4, bk, bp) = .inr (.inr (false, 0, x1, x2, x3, x4, (rf_wrong x1 x3).1, (rf_wrong x1 x3).2)) by
          unfold rf_set_B16 rf_number zlet
          dsimp only
          rw [if_neg hx3]
          rfl)]
        rfl
      rw [en3, ex3]
      obtain ⟨w1, w2, w3, w4⟩ := wrong_eq (fp := fp) q1
      rw [w4]
      exact ⟨⟨rfl, fun q => (by cases q), fun _ => ⟨w1, w2, w3⟩⟩, fun q => (by cases q)⟩
  · have em : mSet zs tk fr en val fp at_ text to (nI (xWo wi)) = (true, tk, fr, en, val, fp, 0, at_) := by
      unfold mSet
      rw [there_f h h9 hk hw c]
      rfl
    have ex : rf_set zs ra rb sort num tape bk bp wi = (true, 0, ra, rb, sort, num, bk, bp) := by
      unfold rf_set
      rw [if_neg c]
    rw [em, ex]
    exact ⟨⟨rfl, fun _ => ⟨hk, rfl, Nat.le_refl _⟩, fun q => (by cases q)⟩, fun _ => (upd_same h0).symm⟩
/-- aRule by its two optional sets -/
theorem aRule_eq (hr : (at_ 1645).toNatClampNeg = nr) : ∀ t1 : Bool × Int32 × Nat × Nat × Int32 × Int32 × Int32 × (Nat → Int64), mf_newOne zs tk fr en val fp 0 at_ names text 5 4 0 = t1 → t1.1 = true → t1.2.2.2.2.2.2.1 = 0 → ∀ s1 : Bool × Int32 × Nat × Nat × Int32 × Int32 × Int32 × (Nat → Int32), mSet zs t1.2.1 t1.2.2.1 t1.2.2.2.1 t1.2.2.2.2.1 t1.2.2.2.2.2.1 at_ text (1652 + (2 * nr)) 5 = s1 → (s1.1 = false → mf_aRule zs tk fr en val fp 0 at_ names text = (false, s1.2.1, s1.2.2.1, s1.2.2.2.1, s1.2.2.2.2.1, s1.2.2.2.2.2.1, s1.2.2.2.2.2.2.1, s1.2.2.2.2.2.2.2, t1.2.2.2.2.2.2.2)) ∧ (s1.1 = true → s1.2.2.2.2.2.2.1 = 0 → ∀ s2 : Bool × Int32 × Nat × Nat × Int32 × Int32 × Int32 × (Nat → Int32), mSet zs s1.2.1 s1.2.2.1 s1.2.2.2.1 s1.2.2.2.2.1 s1.2.2.2.2.2.1 s1.2.2.2.2.2.2.2 text (1652 + (2 * nr) + 1) 6 = s2 → (s2.1 = false → mf_aRule zs tk fr en val fp 0 at_ names text = (false, s2.2.1, s2.2.2.1, s2.2.2.2.1, s2.2.2.2.2.1, s2.2.2.2.2.2.1, s2.2.2.2.2.2.2.1, s2.2.2.2.2.2.2.2, t1.2.2.2.2.2.2.2)) ∧ (s2.1 = true → mf_aRule zs tk fr en val fp 0 at_ names text = (true, s2.2.1, s2.2.2.1, s2.2.2.2.1, s2.2.2.2.2.1, s2.2.2.2.2.2.1, s2.2.2.2.2.2.2.1, upd (upd s2.2.2.2.2.2.2.2 1645 (nI ((s2.2.2.2.2.2.2.2 1645).toNatClampNeg + 1))) 1650 0, t1.2.2.2.2.2.2.2))) := by
  intro t1 ht1 hok hfl s1 hs1
  unfold mf_aRule zlet
  rw [ht1, hr]
  dsimp only
  rw [if_pos hok, hfl]
  unfold mSet at hs1
  by_cases c1 : (mf_isThere zs t1.2.1 t1.2.2.1 t1.2.2.2.1 t1.2.2.2.2.1 text 5).1 = true
  · rw [if_pos c1] at hs1 ⊢
    rw [hs1]
    refine ⟨fun q => ?_, fun q hf2 s2 hs2 => ?_⟩
    · rw [if_neg (by rw [q]; decide)]
    · unfold mSet at hs2
      rw [if_pos q, hf2]
      by_cases c2 : (mf_isThere zs s1.2.1 s1.2.2.1 s1.2.2.2.1 s1.2.2.2.2.1 text 6).1 = true
      · rw [if_pos c2] at hs2 ⊢
        rw [hs2]
        exact ⟨fun q2 => (by rw [if_neg (by rw [q2]; decide)]), fun q2 => (by rw [if_pos q2])⟩
      · rw [if_neg c2] at hs2 ⊢
        subst hs2
        exact ⟨fun q2 => (by cases q2), fun _ => rfl⟩
  · rw [if_neg c1] at hs1 ⊢
    subst hs1
    refine ⟨fun q => (by cases q), fun _ _ s2 hs2 => ?_⟩
    unfold mSet at hs2
    dsimp only at hs2
    by_cases c2 : (mf_isThere zs (mf_isThere zs t1.2.1 t1.2.2.1 t1.2.2.2.1 t1.2.2.2.2.1 text 5).2.1 (mf_isThere zs t1.2.1 t1.2.2.1 t1.2.2.2.1 t1.2.2.2.2.1 text 5).2.2.1 (mf_isThere zs t1.2.1 t1.2.2.1 t1.2.2.2.1 t1.2.2.2.2.1 text 5).2.2.2.1 (mf_isThere zs t1.2.1 t1.2.2.1 t1.2.2.2.1 t1.2.2.2.2.1 text 5).2.2.2.2 text 6).1 = true
    · rw [if_pos c2] at hs2 ⊢
      rw [hs2]
      exact ⟨fun q2 => (by rw [if_neg (by rw [q2]; decide)]), fun q2 => (by rw [if_pos q2])⟩
    · rw [if_neg c2] at hs2 ⊢
      subst hs2
      exact ⟨fun q2 => (by cases q2), fun _ => (by dsimp only; rw [hr])⟩
end R31
