/-! r28: what a token is asked, on both sides; names -/
section R28
variable {tape text : Nat → Int32} {zs : Nat} {ra rb fr en : Nat} {sort num bk bp tk val fp : Int32}
/-- a step that reads: both go on with like tokens, or both fail with the same fault -/
def pRd (tape : Nat → Int32) (zs e0 : Nat) (x : Bool × Nat × Nat × Int32 × Int32 × Int32 × Int32) (m : Bool × Int32 × Nat × Nat × Int32 × Int32 × Int32) : Prop :=
  x.1 = m.1 ∧ (m.1 = true → pTk tape zs (x.2.1, x.2.2.1, x.2.2.2.1, x.2.2.2.2.1) (m.2.1, m.2.2.1, m.2.2.2.1, m.2.2.2.2.1) ∧ m.2.2.2.2.2.2 = 0 ∧ e0 ≤ m.2.2.1) ∧ (m.1 = false → x.2.2.2.2.2.1 = m.2.2.2.2.2.2 ∧ x.2.2.2.2.2.2 = m.2.2.2.2.2.1 ∧ 0 < m.2.2.2.2.2.2)
theorem wrong_eq (hk : pTk tape zs (ra, rb, sort, num) (tk, fr, en, val)) : (rf_wrong ra sort).1 = (mf_fails tk fr fp 0 2).2.2 ∧ (rf_wrong ra sort).2 = (mf_fails tk fr fp 0 2).2.1 ∧ 0 < (mf_fails tk fr fp 0 2).2.2 ∧ (mf_fails tk fr fp 0 2).1 = false := by
  obtain ⟨k1, k2, k3, k4, k5⟩ := hk
  dsimp only at k1 k5
  subst k1
  unfold rf_wrong mf_fails zlet bf_at
  rw [if_pos rfl]
  rcases k5 with ⟨a1, a2⟩ | ⟨a1, a2, -⟩ | ⟨a1, a2, -⟩ | ⟨a1, a2, -⟩ | ⟨a1, a2, -⟩
  · rw [a1, a2, if_neg (by decide), if_neg (by decide)]; exact ⟨rfl, rfl, (by show (0 : Int32) < 2; decide), rfl⟩
  · rw [a1, a2, if_neg (by decide), if_neg (by decide)]; exact ⟨rfl, rfl, (by show (0 : Int32) < 2; decide), rfl⟩
  · rw [a1, a2, if_neg (by decide), if_neg (by decide)]; exact ⟨rfl, rfl, (by show (0 : Int32) < 2; decide), rfl⟩
  · rw [a1, a2, if_neg (by decide), if_neg (by decide)]; exact ⟨rfl, rfl, (by show (0 : Int32) < 2; decide), rfl⟩
  · rw [a1, a2, if_pos (by decide), if_pos (by decide)]; exact ⟨rfl, rfl, (by show (0 : Int32) < 1; decide), rfl⟩
theorem fails_k {kind : Int32} (h1 : ¬ tk = 1) : mf_fails tk fr fp 0 kind = (false, nI fr, kind) := by
  unfold mf_fails
  rw [if_pos rfl, if_neg h1]
theorem sign_iff {ch : Int32} (hk : pTk tape zs (ra, rb, sort, num) (tk, fr, en, val)) : rf_isSign ra sort tape ch = mf_isSign tk val ch := by
  obtain ⟨k1, k2, k3, k4, k5⟩ := hk
  dsimp only at k1 k5
  subst k1
  unfold rf_isSign mf_isSign
  rcases k5 with ⟨a1, a2⟩ | ⟨a1, a2, -⟩ | ⟨a1, a2, -⟩ | ⟨a1, a2, -, a3⟩ | ⟨a1, a2, -⟩
  · rw [a1, a2, if_neg (by decide), if_neg (by decide)]
  · rw [a1, a2, if_neg (by decide), if_neg (by decide)]
  · rw [a1, a2, if_neg (by decide), if_neg (by decide)]
  · rw [a1, a2, if_pos (show (3 : Int32) = 3 from rfl), if_pos (show (4 : Int32) = 4 from rfl), a3]
  · rw [a1, a2, if_neg (by decide), if_neg (by decide)]
theorem go_on (h : pTx tape text zs) (h9 : zs ≤ 900) (hk : pTk tape zs (ra, rb, sort, num) (tk, fr, en, val)) : pRd tape zs en (true, (rf_next zs rb num tape).1, (rf_next zs rb num tape).2.1, (rf_next zs rb num tape).2.2.1, (rf_next zs rb num tape).2.2.2, bk, bp) (true, (mf_onward zs en text).1, (mf_onward zs en text).2.1, (mf_onward zs en text).2.2.1, (mf_onward zs en text).2.2.2, fp, 0) := by
  obtain ⟨q1, q2⟩ := next_tk (num := num) h h9 hk.2.1 hk.2.2.2.1
  exact ⟨rfl, fun _ => ⟨q1, rfl, q2⟩, fun q => (by cases q)⟩
theorem go_off (hk : pTk tape zs (ra, rb, sort, num) (tk, fr, en, val)) : pRd tape zs en (false, ra, rb, sort, num, (rf_wrong ra sort).1, (rf_wrong ra sort).2) ((mf_fails tk fr fp 0 2).1, tk, fr, en, val, (mf_fails tk fr fp 0 2).2.1, (mf_fails tk fr fp 0 2).2.2) := by
  obtain ⟨w1, w2, w3, w4⟩ := wrong_eq (fp := fp) hk
  rw [w4]
  exact ⟨rfl, fun q => (by cases q), fun _ => ⟨w1, w2, w3⟩⟩
theorem close_eq (h : pTx tape text zs) (h9 : zs ≤ 900) (hk : pTk tape zs (ra, rb, sort, num) (tk, fr, en, val)) : pRd tape zs en (rf_close zs ra rb sort num tape bk bp) (mf_wantSign zs tk fr en val fp 0 text 59) := by
  unfold rf_close mf_wantSign zlet
  rw [sign_iff hk]
  by_cases c : mf_isSign tk val 59 = true
  · rw [if_pos c, if_pos c]; exact go_on h h9 hk
  · rw [if_neg c, if_neg c]; exact go_off hk
theorem word_eq (h : pTx tape text zs) (h9 : zs ≤ 900) (hk : pTk tape zs (ra, rb, sort, num) (tk, fr, en, val)) {wi : Nat} (hw : wi < 22) : pRd tape zs en (rf_word zs ra rb sort num tape bk bp wi) (mf_wantWord zs tk fr en val fp 0 text (nI (xWo wi))) := by
  have hi := word_iff h h9 hk hw
  unfold rf_word mf_wantWord zlet
  by_cases c : rf_isWord ra rb sort tape wi = true
  · rw [if_pos c, if_pos (hi.mp c)]; exact go_on h h9 hk
  · rw [if_neg c, if_neg (fun q => c (hi.mpr q))]; exact go_off hk
theorem there_t (h : pTx tape text zs) (h9 : zs ≤ 900) (hk : pTk tape zs (ra, rb, sort, num) (tk, fr, en, val)) {wi : Nat} (hw : wi < 22) (c : rf_isWord ra rb sort tape wi = true) : mf_isThere zs tk fr en val text (nI (xWo wi)) = (true, mf_onward zs en text) := by
  unfold mf_isThere zlet
  rw [if_pos ((word_iff h h9 hk hw).mp c)]
theorem there_f (h : pTx tape text zs) (h9 : zs ≤ 900) (hk : pTk tape zs (ra, rb, sort, num) (tk, fr, en, val)) {wi : Nat} (hw : wi < 22) (c : ¬ rf_isWord ra rb sort tape wi = true) : mf_isThere zs tk fr en val text (nI (xWo wi)) = (false, tk, fr, en, val) := by
  unfold mf_isThere
  rw [if_neg (fun q => c ((word_iff h h9 hk hw).mpr q))]
theorem number_eq {at_ : Nat → Int32} {to : Nat} {lo hi : Int32} (h : pTx tape text zs) (h9 : zs ≤ 900) (hk : pTk tape zs (ra, rb, sort, num) (tk, fr, en, val)) : pRd tape zs en ((rf_number zs ra rb sort num tape bk bp lo hi).1, (rf_number zs ra rb sort num tape bk bp lo hi).2.2) ((mf_number zs tk fr en val fp 0 at_ text to lo hi).1, (mf_number zs tk fr en val fp 0 at_ text to lo hi).2.1, (mf_number zs tk fr en val fp 0 at_ text to lo hi).2.2.1, (mf_number zs tk fr en val fp 0 at_ text to lo hi).2.2.2.1, (mf_number zs tk fr en val fp 0 at_ text to lo hi).2.2.2.2.1, (mf_number zs tk fr en val fp 0 at_ text to lo hi).2.2.2.2.2.1, (mf_number zs tk fr en val fp 0 at_ text to lo hi).2.2.2.2.2.2.1) ∧ ((mf_number zs tk fr en val fp 0 at_ text to lo hi).1 = true → ∃ v : Nat, v < 10000 ∧ (rf_number zs ra rb sort num tape bk bp lo hi).2.1 = nI v ∧ (mf_number zs tk fr en val fp 0 at_ text to lo hi).2.2.2.2.2.2.2 = upd at_ to (nI v) ∧ ¬ nI v < lo ∧ nI v ≤ hi) := by
  have hk' := hk
  obtain ⟨k1, k2, k3, k4, k5⟩ := hk
  dsimp only at k1 k5
  have no : ¬ sort = 2 → ¬ tk = 3 → pRd tape zs en ((rf_number zs ra rb sort num tape bk bp lo hi).1, (rf_number zs ra rb sort num tape bk bp lo hi).2.2) ((mf_number zs tk fr en val fp 0 at_ text to lo hi).1, (mf_number zs tk fr en val fp 0 at_ text to lo hi).2.1, (mf_number zs tk fr en val fp 0 at_ text to lo hi).2.2.1, (mf_number zs tk fr en val fp 0 at_ text to lo hi).2.2.2.1, (mf_number zs tk fr en val fp 0 at_ text to lo hi).2.2.2.2.1, (mf_number zs tk fr en val fp 0 at_ text to lo hi).2.2.2.2.2.1, (mf_number zs tk fr en val fp 0 at_ text to lo hi).2.2.2.2.2.2.1) ∧ ((mf_number zs tk fr en val fp 0 at_ text to lo hi).1 = true → ∃ v : Nat, v < 10000 ∧ (rf_number zs ra rb sort num tape bk bp lo hi).2.1 = nI v ∧ (mf_number zs tk fr en val fp 0 at_ text to lo hi).2.2.2.2.2.2.2 = upd at_ to (nI v) ∧ ¬ nI v < lo ∧ nI v ≤ hi) := by
    intro n1 n2
    unfold rf_number mf_number zlet
    rw [if_neg n1, if_neg n2]
    refine ⟨go_off hk', fun q => ?_⟩
    rw [(wrong_eq (fp := fp) hk').2.2.2] at q
    cases q
  rcases k5 with ⟨a1, a2⟩ | ⟨a1, a2, -⟩ | ⟨a1, a2, -, v, v1, v2, v3⟩ | ⟨a1, a2, -⟩ | ⟨a1, a2, -⟩
  · exact no (by rw [a1]; decide) (by rw [a2]; decide)
  · exact no (by rw [a1]; decide) (by rw [a2]; decide)
  · subst v2 v3
    unfold rf_number mf_number zlet bf_at
    rw [if_pos a1, if_pos a2, fails_k (by rw [a2]; decide)]
    by_cases c : nI v < lo
    · rw [if_pos c, if_pos c]
      exact ⟨⟨rfl, fun q => (by cases q), fun _ => ⟨rfl, congrArg nI k1, (by show (0 : Int32) < 4; decide)⟩⟩, fun q => (by cases q)⟩
    · rw [if_neg c, if_neg c]
      by_cases d : nI v ≤ hi
      · rw [if_pos d, if_pos d]
        exact ⟨go_on h h9 hk', fun _ => ⟨v, v1, rfl, rfl, c, d⟩⟩
      · rw [if_neg d, if_neg d]
        exact ⟨⟨rfl, fun q => (by cases q), fun _ => ⟨rfl, congrArg nI k1, (by show (0 : Int32) < 4; decide)⟩⟩, fun q => (by cases q)⟩
  · exact no (by rw [a1]; decide) (by rw [a2]; decide)
  · exact no (by rw [a1]; decide) (by rw [a2]; decide)
/-- names: x's number and the model's number of so many letters -/
def nX (tape : Nat → Int32) (fr : Nat) : Nat → Nat
  | 0 => 0
  | n + 1 => nX tape fr n * 32 + (cbt tape (fr + n) - 96)
def nM (tape : Nat → Int32) (fr : Nat) : Nat → Nat
  | 0 => 0
  | n + 1 => nM tape fr n * 256 + cbt tape (fr + n)
def pLt (tape : Nat → Int32) (fr n : Nat) : Prop := ∀ i, i < n → 97 ≤ cbt tape (fr + i) ∧ cbt tape (fr + i) ≤ 122
theorem nX_lt : ∀ n, pLt tape fr n → nX tape fr n < 32 ^ n
  | 0, _ => by show 0 < 32 ^ 0; decide
  | n + 1, h => by
    have h1 := nX_lt n (fun i hi => h i (by omega))
    have h2 := h n (by omega)
    show nX tape fr n * 32 + (cbt tape (fr + n) - 96) < 32 ^ (n + 1)
    rw [Nat.pow_succ]
    omega
theorem nM_lt : ∀ n, pLt tape fr (n + 1) → nM tape fr (n + 1) < 128 * 256 ^ n
  | 0, h => by
    have h2 := h 0 (by omega)
    show 0 * 256 + cbt tape (fr + 0) < 128 * 256 ^ 0
    omega
  | n + 1, h => by
    have h1 := nM_lt n (fun i hi => h i (by omega))
    have h2 := h (n + 1) (by omega)
    show nM tape fr (n + 1) * 256 + cbt tape (fr + (n + 1)) < 128 * 256 ^ (n + 1)
    rw [Nat.pow_succ]
    omega
theorem nXM : ∀ (n n' : Nat) {tape' : Nat → Int32} {fr' : Nat}, pLt tape fr n → pLt tape' fr' n' → (nX tape fr n = nX tape' fr' n' ↔ nM tape fr n = nM tape' fr' n')
  | 0, 0, _, _, _, _ => ⟨fun _ => rfl, fun _ => rfl⟩
  | 0, n' + 1, tape', fr', _, h' => by
    have h2 := h' n' (by omega)
    show (0 = nX tape' fr' n' * 32 + (cbt tape' (fr' + n') - 96)) ↔ (0 = nM tape' fr' n' * 256 + cbt tape' (fr' + n'))
    constructor <;> intro q <;> omega
  | n + 1, 0, tape', fr', h, _ => by
    have h2 := h n (by omega)
    show (nX tape fr n * 32 + (cbt tape (fr + n) - 96) = 0) ↔ (nM tape fr n * 256 + cbt tape (fr + n) = 0)
    constructor <;> intro q <;> omega
  | n + 1, n' + 1, tape', fr', h, h' => by
    have ih := nXM n n' (fun i hi => h i (by omega)) (fun i hi => h' i (by omega))
    have h2 := h n (by omega)
    have h3 := h' n' (by omega)
    show (nX tape fr n * 32 + (cbt tape (fr + n) - 96) = nX tape' fr' n' * 32 + (cbt tape' (fr' + n') - 96)) ↔ (nM tape fr n * 256 + cbt tape (fr + n) = nM tape' fr' n' * 256 + cbt tape' (fr' + n'))
    constructor
    · intro q
      have e1 : nX tape fr n = nX tape' fr' n' := by omega
      have e2 := ih.mp e1
      omega
    · intro q
      have e1 : nM tape fr n = nM tape' fr' n' := by omega
      have e2 := ih.mpr e1
      omega
/-- one name on both sides -/
def pNm (X M : Int64) : Prop := ∃ (tape : Nat → Int32) (fr n : Nat), 1 ≤ n ∧ n ≤ 8 ∧ pLt tape fr n ∧ X = lN (nX tape fr n) ∧ M = lN (nM tape fr n)
theorem nX_63 {n : Nat} (h8 : n ≤ 8) (h : pLt tape fr n) : nX tape fr n < 2 ^ 63 := by
  have h1 := nX_lt n h
  have h2 : 32 ^ n ≤ 32 ^ 8 := Nat.pow_le_pow_right (by decide) h8
  have h3 : (32 : Nat) ^ 8 < 2 ^ 63 := by decide
  omega
theorem nM_63 {n : Nat} (h8 : n ≤ 8) (h : pLt tape fr n) : nM tape fr n < 2 ^ 63 := by
  cases n with
  | zero => show 0 < 2 ^ 63; decide
  | succ n =>
    have h1 := nM_lt n h
    have h2 : 256 ^ n ≤ 256 ^ 7 := Nat.pow_le_pow_right (by decide) (by omega)
    have h3 : 128 * (256 : Nat) ^ 7 = 2 ^ 63 := by decide
    omega
theorem pNm_eq {X M X' M' : Int64} (h1 : pNm X M) (h2 : pNm X' M') : X = X' ↔ M = M' := by
  obtain ⟨t, f, n, a1, a2, a3, rfl, rfl⟩ := h1
  obtain ⟨t', f', n', b1, b2, b3, rfl, rfl⟩ := h2
  rw [pk_lEQ (nX_63 a2 a3) (nX_63 b2 b3), pk_lEQ (nM_63 a2 a3) (nM_63 b2 b3)]
  exact nXM n n' a3 b3
theorem nX_run (h : pBt tape) {n : Nat} (hl : pLt tape fr n) : ∀ f k (d : Nat × Int64), k ≤ n → n - k < f → zw (rf_name_B41 fr (fr + n) tape) d f (fr + k, lN (nX tape fr k)) = (fr + n, lN (nX tape fr n)) := by
  intro f
  induction f with
  | zero => exact fun k d _ hn => absurd hn (Nat.not_lt_zero _)
  | succ f ih =>
    intro k d hk hn
    by_cases c : k = n
    · subst c
      rw [zw_r (show rf_name_B41 fr (fr + k) tape (fr + k, lN (nX tape fr k)) = .inr (fr + k, lN (nX tape fr k)) by unfold rf_name_B41; rw [if_pos (Nat.le_refl _)])]
    · have hc := hl k (by omega)
      have et : tape (fr + k) = nI (cbt tape (fr + k)) := (cb_all h (fr + k)).2.2.2.2.1 (by omega)
      have es : ((lN (nX tape fr k)) * 32 + (tape (fr + k)).toInt64) - 96 = lN (nX tape fr (k + 1)) := by
        rw [et, nI_l (by omega), show (32 : Int64) = lN 32 from rfl, lN_mul, lN_add, show (96 : Int64) = lN 96 from rfl, lN_sub (by omega)]
        show lN (nX tape fr k * 32 + cbt tape (fr + k) - 96) = lN (nX tape fr k * 32 + (cbt tape (fr + k) - 96))
        exact congrArg lN (by omega)
      rw [zw_l (show rf_name_B41 fr (fr + n) tape (fr + k, lN (nX tape fr k)) = .inl (fr + (k + 1), lN (nX tape fr (k + 1))) by
        unfold rf_name_B41
        rw [if_neg (show ¬ fr + n ≤ fr + k by omega)]
        dsimp only
        rw [es]
        rfl)]
      exact ih (k + 1) d (by omega) (by omega)
theorem nM_run (h : pTx tape text zs) {n : Nat} (h8 : n ≤ 8) (hz : fr + n ≤ zs) (hl : pLt tape fr n) : ∀ f k (d : Nat × Int64), k ≤ n → n - k < f → zw (mf_nameHere_B7 zs fr (fr + n) text) d f (fr + k, lN (nM tape fr k)) = (fr + n, lN (nM tape fr n)) := by
  intro f
  induction f with
  | zero => exact fun k d _ hn => absurd hn (Nat.not_lt_zero _)
  | succ f ih =>
    intro k d hk hn
    by_cases c : k = n
    · subst c
      rw [zw_r (show mf_nameHere_B7 zs fr (fr + k) text (fr + k, lN (nM tape fr k)) = .inr (fr + k, lN (nM tape fr k)) by unfold mf_nameHere_B7; rw [if_pos (Nat.le_refl _)])]
    · have hc := hl k (by omega)
      have hb : nM tape fr (k + 1) < 2 ^ 63 := nM_63 (by omega) (fun i hi => hl i (by omega))
      have hb2 : nM tape fr k * 256 + cbt tape (fr + k) < 2 ^ 63 := hb
      have et : mf_byteAt zs text (fr + k) = nI (cbt tape (fr + k)) := by rw [by_at h, if_neg (by omega)]
      have es : ((lN (nM tape fr k)) <<< ((8 : Int32).toInt64 &&& 63)) ||| ((mf_byteAt zs text (fr + k)).toInt64) = lN (nM tape fr (k + 1)) := by
        rw [et, nI_l (by omega), show (8 : Int32) = nI 8 from rfl, wb_shl _ (by decide : 8 < 64)]
        have h1 : nM tape fr k * 2 ^ 8 ||| cbt tape (fr + k) = nM tape fr k * 2 ^ 8 + cbt tape (fr + k) := by
          rw [← Nat.shiftLeft_eq, Nat.shiftLeft_add_eq_or_of_lt (show cbt tape (fr + k) < 2 ^ 8 by omega)]
        have e8 : (2 : Nat) ^ 8 = 256 := by decide
        have h64 : nM tape fr k * 2 ^ 8 < 2 ^ 64 := by
          rw [e8]
          exact Nat.lt_trans (Nat.lt_of_le_of_lt (Nat.le_add_right _ _) hb2) (by decide)
        have h65 : cbt tape (fr + k) < 2 ^ 64 := Nat.lt_of_le_of_lt hc.2 (by decide)
        rw [wb_or h64 h65, h1]
        rw [e8]
        rfl
      rw [zw_l (show mf_nameHere_B7 zs fr (fr + n) text (fr + k, lN (nM tape fr k)) = .inl (fr + (k + 1), lN (nM tape fr (k + 1))) by
        unfold mf_nameHere_B7
        rw [if_neg (show ¬ fr + n ≤ fr + k by omega)]
        dsimp only
        rw [es]
        rfl)]
      exact ih (k + 1) d (by omega) (by omega)
end R28
