/-! r25: the small laws: feed, fault, told; no rules at all; what an operation leaves alone; copies -/
section R25
variable {a : Nat → Int32} {Wd R nr nc : Nat} {ulit umayor unight uoil : Int32} {uborn ustays useen : Nat → Int32} {thouses talways tnever : Int32} {tring : Bool} {tbeside : Nat → Int32}
theorem rr_feed (tp : Nat) (tape : Nat → Int32) (fa fb fc fd fe : Int32) : xf_feed tp tape fa fb fc fd fe = mf_feed tp tape fa fb fc fd fe := rfl
theorem feed_le {tp : Nat} {tape : Nat → Int32} {fa fb fc fd fe : Int32} (h : tp ≤ 900) : (mf_feed tp tape fa fb fc fd fe).2.1 ≤ 900 := by
  unfold mf_feed
  by_cases c : tp + 20 ≤ 900
  · rw [if_pos c]
    show tp + 4 + 4 + 4 + 4 + 4 ≤ 900
    omega
  · rw [if_neg c]; exact h
/-- every place of the tape holds a byte -/
def pBt (tape : Nat → Int32) : Prop := ∀ k, vp_nar .byte (tape k) = tape k
theorem nar_nar (x : Int32) : vp_nar .byte (vp_nar .byte x) = vp_nar .byte x := by
  show x.toInt8.toInt32.toInt8.toInt32 = x.toInt8.toInt32
  simp
theorem pBt_u {tape : Nat → Int32} {k : Nat} {x : Int32} (h : pBt tape) : pBt (upd tape k (vp_nar .byte x)) := by
  intro j
  by_cases e : j = k
  · subst e; rw [pk_us]; exact nar_nar x
  · rw [pk_un e]; exact h j
theorem four_bt {tp : Nat} {tape : Nat → Int32} {v : Int32} (h : pBt tape) : pBt (mf_four tp tape v).2 := pBt_u (pBt_u (pBt_u (pBt_u h)))
theorem feed_bt {tp : Nat} {tape : Nat → Int32} {fa fb fc fd fe : Int32} (h : pBt tape) : pBt (mf_feed tp tape fa fb fc fd fe).2.2 := by
  unfold mf_feed
  by_cases c : tp + 20 ≤ 900
  · rw [if_pos c]
    exact four_bt (four_bt (four_bt (four_bt (four_bt h))))
  · rw [if_neg c]; exact h
theorem rr_fault (k p w : Int32) : xf_fault k p w = mf_fault k p w := rfl
theorem rr_told {what : Int32} (hG : mOK a Wd R nr nc) (h : pH a Wd R nr ulit umayor unight uoil uborn ustays useen thouses talways tnever tbeside) (h9 : a 9 = if tf_joins Wd tring = true then 1 else 0) : xf_told ulit umayor unight uoil Wd R thouses talways tnever nr nc tring what = mf_told a what := by
  obtain ⟨⟨h2, h4, -⟩, h3, -, h7, h8, h10, hm, -⟩ := h
  by_cases c : xf_isIn what.toInt64 0 10 = true
  · obtain ⟨w0, w1⟩ := (r_in2 (x := what) (N := 10) (by decide)).mp c
    obtain ⟨n, hn, rfl⟩ : ∃ n : Nat, n ≤ 10 ∧ what = nI n := ⟨what.toNatClampNeg, z_ngt 10 (by decide) w0 w1, z_nn w0⟩
    unfold xf_told mf_told
    rw [if_pos c, if_neg w0, if_pos (show nI n ≤ (10 : Int32) from nI_le (b := 10) hn (by decide)), nI_clamp (show n < 2 ^ 31 by omega)]
    have hz : n = 0 ∨ n = 1 ∨ n = 2 ∨ n = 3 ∨ n = 4 ∨ n = 5 ∨ n = 6 ∨ n = 7 ∨ n = 8 ∨ n = 9 ∨ n = 10 := by omega
    rcases hz with rfl | rfl | rfl | rfl | rfl | rfl | rfl | rfl | rfl | rfl | rfl
    · rw [if_pos (by decide), if_neg (by decide), if_pos (by decide), hG.1.1]
    · rw [if_neg (by decide), if_pos (by decide), if_neg (by decide), if_pos (by decide), hG.2.1.1]
    · rw [if_neg (by decide), if_neg (by decide), if_pos (by decide), if_neg (by decide), if_neg (by decide), if_neg (by decide), h2]
    · rw [if_neg (by decide), if_neg (by decide), if_neg (by decide), if_pos (by decide), if_neg (by decide), if_neg (by decide), if_neg (by decide), h3]
    · rw [if_neg (by decide), if_neg (by decide), if_neg (by decide), if_neg (by decide), if_pos (by decide), if_neg (by decide), if_neg (by decide), if_neg (by decide), h4]
    · rw [if_neg (by decide), if_neg (by decide), if_neg (by decide), if_neg (by decide), if_neg (by decide), if_pos (by decide), if_neg (by decide), if_neg (by decide), if_pos (by decide), hG.2.2.1.1]
    · rw [if_neg (by decide), if_neg (by decide), if_neg (by decide), if_neg (by decide), if_neg (by decide), if_neg (by decide), if_pos (by decide), if_neg (by decide), if_neg (by decide), if_pos (by decide), hG.2.2.2.1.1]
    · rw [if_neg (by decide), if_neg (by decide), if_neg (by decide), if_neg (by decide), if_neg (by decide), if_neg (by decide), if_neg (by decide), if_pos (by decide), if_neg (by decide), if_neg (by decide), if_pos (by decide), h7]
    · rw [if_neg (by decide), if_neg (by decide), if_neg (by decide), if_neg (by decide), if_neg (by decide), if_neg (by decide), if_neg (by decide), if_neg (by decide), if_pos (by decide), if_neg (by decide), if_neg (by decide), if_pos (by decide), h8]
    · by_cases d : tf_joins Wd tring = true
      · rw [if_pos d] at h9
        rw [if_neg (by decide), if_neg (by decide), if_neg (by decide), if_neg (by decide), if_neg (by decide), if_neg (by decide), if_neg (by decide), if_neg (by decide), if_neg (by decide), if_pos (by decide), if_pos d, if_neg (by decide), if_neg (by decide), if_pos (by decide), h9]
      · rw [if_neg d] at h9
        rw [if_neg (by decide), if_neg (by decide), if_neg (by decide), if_neg (by decide), if_neg (by decide), if_neg (by decide), if_neg (by decide), if_neg (by decide), if_neg (by decide), if_pos (by decide), if_neg d, if_neg (by decide), if_neg (by decide), if_pos (by decide), h9]
    · rw [if_neg (by decide), if_neg (by decide), if_neg (by decide), if_neg (by decide), if_neg (by decide), if_neg (by decide), if_neg (by decide), if_neg (by decide), if_neg (by decide), if_neg (by decide), if_pos (by decide), if_pos (by decide), h10]
      unfold zlet
      rw [r_answer (hm.imp id (fun q => q.1))]
  · have hm : mf_told a what = (-1, 1) := by
      unfold mf_told
      by_cases d : what < 0
      · rw [if_pos d]
      · rw [if_neg d, if_neg]
        intro g
        exact c ((r_in2 (x := what) (N := 10) (by decide)).mpr ⟨d, Int32.not_lt.mpr g⟩)
    rw [hm]
    have hz : ∀ n : Nat, n ≤ 10 → ¬ what = nI n := by
      intro n hn q
      apply c
      rw [q]
      exact (r_in2 (x := nI n) (N := 10) (by decide)).mpr ⟨nI_pos (by omega), nI_nlt hn (by omega)⟩
    unfold xf_told
    rw [if_neg c, if_neg (show ¬ what = 0 from hz 0 (by omega)), if_neg (show ¬ what = 1 from hz 1 (by omega)), if_neg (show ¬ what = 2 from hz 2 (by omega)), if_neg (show ¬ what = 3 from hz 3 (by omega)), if_neg (show ¬ what = 4 from hz 4 (by omega)), if_neg (show ¬ what = 5 from hz 5 (by omega)), if_neg (show ¬ what = 6 from hz 6 (by omega)), if_neg (show ¬ what = 7 from hz 7 (by omega)), if_neg (show ¬ what = 8 from hz 8 (by omega)), if_neg (show ¬ what = 9 from hz 9 (by omega)), if_neg (show ¬ what = 10 from hz 10 (by omega))]
theorem isRule0 (ru : Int32) : mf_isRule 0 ru = false := by
  unfold mf_isRule
  by_cases c : ru < 0
  · rw [if_pos c]
  · rw [if_neg c, if_pos (show nI 0 ≤ ru from Int32.not_lt.mp c)]
theorem isRule0' (ru : Int32) : xf_isRule 0 ru = false := (r_ruleA (by decide)).symm.trans (isRule0 ru)
theorem rr_mayor' {ru : Int32} (h : pH a Wd R nr ulit umayor unight uoil uborn ustays useen thouses talways tnever tbeside) : (xf_mayor umayor nr ru).1 = (mf_mayor a nr ru).1 ∧ (xf_mayor umayor nr ru).2.1 = (mf_mayor a nr ru).2.1 ∧ pH (mf_mayor a nr ru).2.2 Wd R nr ulit (xf_mayor umayor nr ru).2.2 unight uoil uborn ustays useen thouses talways tnever tbeside := by
  rcases Nat.eq_zero_or_pos nr with h0 | h0
  · subst h0
    unfold xf_mayor mf_mayor
    rw [isRule0, isRule0', if_neg (by decide), if_neg (by decide)]
    exact ⟨rfl, rfl, h⟩
  · exact rr_mayor h h0
theorem rr_bend' {ru x y : Int32} (h : pH a Wd R nr ulit umayor unight uoil uborn ustays useen thouses talways tnever tbeside) : (xf_bend uborn ustays nr ru x y).1 = (mf_bend a nr ru x y).1 ∧ (xf_bend uborn ustays nr ru x y).2.1 = (mf_bend a nr ru x y).2.1 ∧ pH (mf_bend a nr ru x y).2.2 Wd R nr ulit umayor unight uoil (xf_bend uborn ustays nr ru x y).2.2.1 (xf_bend uborn ustays nr ru x y).2.2.2 useen thouses talways tnever tbeside := by
  rcases Nat.eq_zero_or_pos nr with h0 | h0
  · subst h0
    unfold xf_bend mf_bend
    rw [isRule0, isRule0', if_neg (by decide), if_neg (by decide)]
    exact ⟨rfl, rfl, h⟩
  · exact rr_bend h h0
theorem rr_rule' {ru what : Int32} (h : pH a Wd R nr ulit umayor unight uoil uborn ustays useen thouses talways tnever tbeside) : xf_rule uborn ustays nr ru what = mf_rule a nr ru what := by
  rcases Nat.eq_zero_or_pos nr with h0 | h0
  · subst h0
    unfold xf_rule mf_rule
    rw [isRule0, isRule0', if_neg (by decide), if_neg (by decide)]
  · exact rr_rule h h0
theorem paint_fr {pic : Int64} : ∀ j, ¬ j = 3 → (mf_paint a pic).2.2 j = a j := by
  intro j hj
  unfold mf_paint
  split
  · exact pk_un hj
  · rfl
theorem paint_pL {pic : Int64} (hsub : talways &&& thouses = talways) (hL : pL thouses talways tnever ulit) : pL thouses talways tnever (xf_paint ulit thouses talways tnever pic).2.2 := by
  unfold xf_paint
  split
  · exact pL_paint hsub
  · exact hL
theorem mayor_fr {ru : Int32} : ∀ j, ¬ j = 10 → (mf_mayor a nr ru).2.2 j = a j := by
  intro j hj
  unfold mf_mayor
  split
  · exact pk_un hj
  · rfl
theorem bend_fr {ru x y : Int32} (h4 : nr ≤ 4) : ∀ j, ¬ (12 ≤ j ∧ j < 20) → (mf_bend a nr ru x y).2.2 j = a j := by
  intro j hj
  unfold mf_bend
  split
  · rename_i c
    rw [r_ruleA h4] at c
    have c2 := (r_isRule_t h4 c).2
    split
    · split
      · exact (pk_un (by omega)).trans (pk_un (by omega))
      · rfl
    · rfl
  · rfl
theorem turn_fr {x y : Int32} : ∀ j, ¬ j = 3 → (mf_turn a Wd R x y).2.2 j = a j := by
  intro j hj
  unfold mf_turn
  split
  · split
    · exact pk_un hj
    · exact pk_un hj
  · rfl
theorem turn_pL {x y : Int32} (hL : pL thouses talways tnever ulit) : pL thouses talways tnever (xf_turn ulit Wd R thouses talways tnever x y).2.2 := by
  unfold xf_turn
  split
  · rename_i c
    obtain ⟨-, hf⟩ := whyStuck_0 c
    obtain ⟨j, hj, e⟩ := i_sh (nI Wd * y + x)
    rw [e] at hf
    have hp := pL_flip hj hL hf
    rw [← e] at hp
    exact hp
  · exact hL
/-- copies of slots -/
theorem cp_at (s : Nat → Int32) {cf ct : Nat} (hne : ¬ cf = ct) : (∀ j, ¬ (410 * ct ≤ j ∧ j < 410 * ct + 410) → mf_copies_L2 cf ct s j = s j) ∧ ∀ k, k < 410 → mf_copies_L2 cf ct s (410 * ct + k) = s (410 * cf + k) := by
  have key : ∀ n, n ≤ 410 → (∀ j, ¬ (410 * ct ≤ j ∧ j < 410 * ct + n) → zf (mf_copies_B2 cf ct) s n j = s j) ∧ ∀ k, k < n → zf (mf_copies_B2 cf ct) s n (410 * ct + k) = s (410 * cf + k) := by
    intro n
    induction n with
    | zero => exact fun _ => ⟨fun _ _ => rfl, fun k hk => absurd hk (Nat.not_lt_zero _)⟩
    | succ n ih =>
      intro hn
      obtain ⟨i1, i2⟩ := ih (by omega)
      have es : zf (mf_copies_B2 cf ct) s n (410 * cf + n) = s (410 * cf + n) := i1 _ (by omega)
      show (∀ j, ¬ (410 * ct ≤ j ∧ j < 410 * ct + (n + 1)) → upd (zf (mf_copies_B2 cf ct) s n) (410 * ct + n) (zf (mf_copies_B2 cf ct) s n (410 * cf + n)) j = s j) ∧ ∀ k, k < n + 1 → upd (zf (mf_copies_B2 cf ct) s n) (410 * ct + n) (zf (mf_copies_B2 cf ct) s n (410 * cf + n)) (410 * ct + k) = s (410 * cf + k)
      rw [es]
      refine ⟨fun j hj => (pk_un (by omega)).trans (i1 j (by omega)), fun k hk => ?_⟩
      by_cases e : k = n
      · subst e; exact pk_us
      · rw [pk_un (by omega)]; exact i2 k (by omega)
  exact key 410 (Nat.le_refl _)
theorem cp_nm (s : Nat → Int64) {cf ct : Nat} (hne : ¬ cf = ct) : (∀ j, ¬ (10 * ct ≤ j ∧ j < 10 * ct + 10) → mf_copies_L41 cf ct s j = s j) ∧ ∀ k, k < 10 → mf_copies_L41 cf ct s (10 * ct + k) = s (10 * cf + k) := by
  have key : ∀ n, n ≤ 10 → (∀ j, ¬ (10 * ct ≤ j ∧ j < 10 * ct + n) → zf (mf_copies_B41 cf ct) s n j = s j) ∧ ∀ k, k < n → zf (mf_copies_B41 cf ct) s n (10 * ct + k) = s (10 * cf + k) := by
    intro n
    induction n with
    | zero => exact fun _ => ⟨fun _ _ => rfl, fun k hk => absurd hk (Nat.not_lt_zero _)⟩
    | succ n ih =>
      intro hn
      obtain ⟨i1, i2⟩ := ih (by omega)
      have es : zf (mf_copies_B41 cf ct) s n (10 * cf + n) = s (10 * cf + n) := i1 _ (by omega)
      show (∀ j, ¬ (10 * ct ≤ j ∧ j < 10 * ct + (n + 1)) → vp_updL (zf (mf_copies_B41 cf ct) s n) (10 * ct + n) (zf (mf_copies_B41 cf ct) s n (10 * cf + n)) j = s j) ∧ ∀ k, k < n + 1 → vp_updL (zf (mf_copies_B41 cf ct) s n) (10 * ct + n) (zf (mf_copies_B41 cf ct) s n (10 * cf + n)) (10 * ct + k) = s (10 * cf + k)
      rw [es]
      refine ⟨fun j hj => (pk_uLn (by omega)).trans (i1 j (by omega)), fun k hk => ?_⟩
      by_cases e : k = n
      · subst e; exact pk_uLs
      · rw [pk_uLn (by omega)]; exact i2 k (by omega)
  exact key 10 (Nat.le_refl _)
end R25
