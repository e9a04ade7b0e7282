/-! r22: a year lived: the tree's run is the table's run -/
section R22
variable {a a0 b ra lo : Nat → Int32} {Wd R nr nc nn k c n rs : Nat} {dr : Int32} {uborn ustays : Nat → Int32} {thouses talways tnever : Int32} {tring : Bool} {tbeside tleast tmost : Nat → Int32} {trnames : Nat → Int64} {σ : yS}
def yTst (a : Nat → Int32) (Wd R k : Nat) (w : Int32 × Int32 × Int32) : Prop :=
  (w.1 = 0 ∧ a (44 + 6 * k) = 1519 ∧ a (44 + 6 * k + 1) = w.2.1 ∧ a (44 + 6 * k + 5) = w.2.2) ∨ (w.1 = 1 ∧ a (44 + 6 * k) = 1520 ∧ ∃ x y : Nat, x < Wd ∧ y < R ∧ a (44 + 6 * k + 1) = nI x ∧ a (44 + 6 * k + 2) = nI y ∧ w.2.1 = nI (Wd * y + x)) ∨ (w.1 = 2 ∧ a (44 + 6 * k) = 1521)
theorem tst_holds {w : Int32 × Int32 × Int32} (ht : yTst a0 Wd R k w) (h : lvR a0 Wd R nr uborn ustays thouses talways tnever tbeside σ dr rs a ra) : (mf_holds a b Wd R k).1 = yIs (Wd, R, nr, nc, thouses, talways, tnever, tring, uborn, ustays, tbeside, tleast, tmost, trnames) w.1 w.2.1 w.2.2 σ := by
  have hrw := lvR_row h
  obtain ⟨w0, w1, w2⟩ := w
  have q7 := h.2.2.2.1
  have e3 := q7.2.1
  have e0 := hrw (44 + 6 * k) (by omega)
  have e1 := hrw (44 + 6 * k + 1) (by omega)
  have e2 := hrw (44 + 6 * k + 2) (by omega)
  have e5 := hrw (44 + 6 * k + 5) (by omega)
  dsimp only [yTst] at ht
  unfold yIs yf_is mf_holds
  dsimp only
  rcases ht with ⟨r0, r1, r2, r3⟩ | ⟨r0, r1, x, y, hx, hy, r2, r3, r4⟩ | ⟨r0, r1⟩
  · subst r0
    rw [e0, r1, e1, r2, e5, r3, e3, if_neg (show ¬ (1519 : Int32) - 1500 = 21 by decide), if_neg (show ¬ (1519 : Int32) - 1500 = 20 by decide), if_neg (show ¬ (0 : Int32) = 1 by decide), if_neg (show ¬ (0 : Int32) = 2 by decide)]
    by_cases c1 : w2 = 60
    · rw [if_pos c1, if_pos c1]
      split <;> rfl
    · rw [if_neg c1, if_neg c1]
      by_cases c2 : w2 = 62
      · rw [if_pos c2, if_pos c2]
        split <;> rfl
      · rw [if_neg c2, if_neg c2]
        split <;> rfl
  · subst r0
    rw [e0, r1, e1, r2, e2, r3, e3, if_neg (show ¬ (1520 : Int32) - 1500 = 21 by decide), if_pos (show (1520 : Int32) - 1500 = 20 by decide), if_pos (show (1 : Int32) = 1 from rfl)]
    unfold mf_bitOf
    rw [pk_mul, nI_add, r4]
    by_cases c1 : ((σ.2.2.2.2.2.2.2.2.1 >>> (nI (Wd * y + x) &&& 31)) &&& 1) = 1
    · rw [if_pos c1, if_neg ((i_tst1 _ _).mp c1)]
    · rw [if_neg c1, if_pos (Classical.not_not.mp (fun q => c1 ((i_tst1 _ _).mpr q)))]
  · subst r0
    rw [e0, r1, if_pos (show (1521 : Int32) - 1500 = 21 by decide), if_neg (show ¬ (2 : Int32) = 1 by decide), if_pos (show (2 : Int32) = 2 from rfl)]
    unfold mf_isStill zlet
    dsimp only
    rw [r_after1 q7, e3]
    split <;> rfl
def yEncs {α : Type} (en : α → Nat → Nat → Prop) : List α → Nat → Nat → Prop
  | [], k, e => e = k
  | t :: ts, k, e => ∃ k1, en t k k1 ∧ yEncs en ts k1 e
def yEncS {α : Type} (a : Nat → Int32) (Wd R nr : Nat) (en : α → Nat → Nat → Prop) : yTs α → Nat → Nat → Prop
  | .inl t, k, e => e = k + 1 ∧ yRow a Wd R nr k t
  | .inr (.inl w), k, e => ∃ c, e = c + 1 ∧ a (44 + 6 * k) = 16 ∧ a (44 + 6 * k + 1) = nI w.1 ∧ 1 ≤ w.1 ∧ w.1 ≤ 99 ∧ yEncs en w.2 (k + 1) c ∧ a (44 + 6 * c) = 17 ∧ a (44 + 6 * c + 4) = nI k
  | .inr (.inr w), k, e => ∃ c, e = c + 1 ∧ yTst a Wd R k w.1 ∧ a (44 + 6 * k + 4) = nI c ∧ yEncs en w.2 (k + 1) c ∧ a (44 + 6 * c) = 17 ∧ a (44 + 6 * c + 4) = nI k
def yEnc (a : Nat → Int32) (Wd R nr : Nat) : (n : Nat) → yT n → Nat → Nat → Prop
  | 0 => fun t k e => e = k + 1 ∧ yRow a Wd R nr k t
  | n + 1 => yEncS a Wd R nr (yEnc a Wd R nr n)
theorem yEncs_le {α : Type} {en : α → Nat → Nat → Prop} (hen : ∀ t k e, en t k e → k < e) : ∀ (cs : List α) (k e : Nat), yEncs en cs k e → k ≤ e
  | [], k, e, h => by rw [show e = k from h]; exact Nat.le_refl _
  | t :: ts, k, e, h => by
    obtain ⟨k1, h1, h2⟩ := h
    have a1 := hen t k k1 h1
    have a2 := yEncs_le hen ts k1 e h2
    omega
theorem yEnc_lt : ∀ (n : Nat) (t : yT n) (k e : Nat), yEnc a0 Wd R nr n t k e → k < e
  | 0, t, k, e, h => by rw [h.1]; exact Nat.lt_succ_self _
  | n + 1, .inl t, k, e, h => by rw [h.1]; exact Nat.lt_succ_self _
  | n + 1, .inr (.inl w), k, e, h => by
    obtain ⟨c, he, -, -, -, -, h1, -⟩ := h
    have := yEncs_le (yEnc_lt n) w.2 (k + 1) c h1
    omega
  | n + 1, .inr (.inr w), k, e, h => by
    obtain ⟨c, he, -, -, h1, -⟩ := h
    have := yEncs_le (yEnc_lt n) w.2 (k + 1) c h1
    omega
/-- from row k to row e the table does what go does -/
def lvOK (a0 : Nat → Int32) (Wd R nr nc nn : Nat) (uborn ustays : Nat → Int32) (thouses talways tnever : Int32) (tbeside : Nat → Int32) (go : yS → yS) (k e : Nat) : Prop :=
  ∀ (σ : yS) (dr : Int32) (rs : Nat) (a b lo ra : Nat → Int32), lvR a0 Wd R nr uborn ustays thouses talways tnever tbeside σ dr rs a ra → rs ≤ 300 → σ.2.2.2.2.2.2.1 = false → mLP lo →
    ∃ (dr' : Int32) (rs' : Nat) (a' b' lo' ra' : Nat → Int32), lvR a0 Wd R nr uborn ustays thouses talways tnever tbeside (go σ) dr' rs' a' ra' ∧ rs' ≤ 300 ∧ mLP lo' ∧ (∀ o, (o < k ∨ e ≤ o) → lo' o = lo o) ∧ lvF Wd R nr nc nn k dr rs a b lo ra = (if (go σ).2.2.2.2.2.2.1 = true then .inr (dr', nI rs', a', b', lo', ra') else lvF Wd R nr nc nn e dr' rs' a' b' lo' ra')
/-- the same of a step's own work, the step counted -/
def lvD (a0 : Nat → Int32) (Wd R nr nc nn : Nat) (uborn ustays : Nat → Int32) (thouses talways tnever : Int32) (tbeside : Nat → Int32) (doe : yS → yS) (k e : Nat) : Prop :=
  ∀ (σ : yS) (dr : Int32) (rs : Nat) (a b lo ra : Nat → Int32), lvR a0 Wd R nr uborn ustays thouses talways tnever tbeside σ dr (rs + 1) a ra → rs < 300 → σ.2.2.2.2.2.2.1 = false → mLP lo →
    ∃ (dr' : Int32) (rs' : Nat) (a' b' lo' ra' : Nat → Int32), lvR a0 Wd R nr uborn ustays thouses talways tnever tbeside (doe σ) dr' rs' a' ra' ∧ rs' ≤ 300 ∧ mLP lo' ∧ (∀ o, (o < k ∨ e ≤ o) → lo' o = lo o) ∧ lvF Wd R nr nc nn k dr rs a b lo ra = (if (doe σ).2.2.2.2.2.2.1 = true then .inr (dr', nI rs', a', b', lo', ra') else lvF Wd R nr nc nn e dr' rs' a' b' lo' ra')
theorem lvF_be {lo' : Nat → Int32} {k' : Nat} (e : mf_behindEnds a lo nn k = mf_behindEnds a lo' nn k') : lvF Wd R nr nc nn k dr rs a b lo ra = lvF Wd R nr nc nn k' dr rs a b lo' ra := by
  unfold lvF
  rw [e]
theorem upd_a0 (f : Nat → Int32) (o : Nat) : upd f o (f o + 0) = f := by
  funext j
  by_cases q : j = o
  · subst q; rw [pk_us]; exact Int32.add_zero _
  · exact pk_un q
theorem lvOK_nil : lvOK a0 Wd R nr nc nn uborn ustays thouses talways tnever tbeside (fun σ => σ) k k := by
  intro σ dr rs a b lo ra hR hr ho hL
  refine ⟨dr, rs, a, b, lo, ra, hR, hr, hL, fun _ _ => rfl, ?_⟩
  dsimp only
  rw [ho, if_neg (by decide)]
theorem lvOK_cons {go go1 all : yS → yS} {k1 e : Nat} (hgo : ∀ σ : yS, σ.2.2.2.2.2.2.1 = false → go σ = all (go1 σ)) (h1 : lvOK a0 Wd R nr nc nn uborn ustays thouses talways tnever tbeside go1 k k1) (h2 : lvOK a0 Wd R nr nc nn uborn ustays thouses talways tnever tbeside all k1 e) (hov : ∀ σ : yS, σ.2.2.2.2.2.2.1 = true → all σ = σ) (hk : k ≤ k1) (hk2 : k1 ≤ e) : lvOK a0 Wd R nr nc nn uborn ustays thouses talways tnever tbeside go k e := by
  intro σ dr rs a b lo ra hR hr ho hL
  obtain ⟨dr1, rs1, a1, b1, lo1, ra1, p1, p2, p3, p4, p5⟩ := h1 σ dr rs a b lo ra hR hr ho hL
  rw [hgo σ ho, p5]
  by_cases c : (go1 σ).2.2.2.2.2.2.1 = true
  · rw [hov _ c]
    exact ⟨dr1, rs1, a1, b1, lo1, ra1, p1, p2, p3, fun o h => p4 o (by omega), by rw [if_pos c, if_pos c]⟩
  · obtain ⟨dr2, rs2, a2, b2, lo2, ra2, q1, q2, q3, q4, q5⟩ := h2 (go1 σ) dr1 rs1 a1 b1 lo1 ra1 p1 p2 (by cases h : (go1 σ).2.2.2.2.2.2.1 <;> simp_all) p3
    exact ⟨dr2, rs2, a2, b2, lo2, ra2, q1, q2, q3, fun o h => (q4 o (by omega)).trans (p4 o (by omega)), by rw [if_neg c, q5]⟩
theorem yAll_ok {α : Type} {go : α → yS → yS} {en : α → Nat → Nat → Prop} (hen : ∀ t k e, en t k e → k < e) (H : ∀ t k e, en t k e → e ≤ nn → lvOK a0 Wd R nr nc nn uborn ustays thouses talways tnever tbeside (go t) k e) : ∀ (cs : List α) (k e : Nat), yEncs en cs k e → e ≤ nn → lvOK a0 Wd R nr nc nn uborn ustays thouses talways tnever tbeside (yAll go cs) k e
  | [], k, e, h, _ => by
    rw [show e = k from h]
    exact lvOK_nil
  | t :: ts, k, e, h, hle => by
    obtain ⟨k1, h1, h2⟩ := h
    have a1 := hen t k k1 h1
    have a2 := yEncs_le hen ts k1 e h2
    exact lvOK_cons (go := yAll go (t :: ts)) (fun σ ho => by show (if σ.2.2.2.2.2.2.1 = true then σ else yAll go ts (go t σ)) = _; rw [if_neg (by rw [ho]; decide)]) (H t k k1 h1 (by omega)) (yAll_ok hen H ts k1 e h2 hle) (fun σ h => yAll_over h) (by omega) a2
theorem lvOK_loop {all : yS → yS} (hE : lvE a0 Wd R nr nc nn thouses talways tnever tbeside tleast tmost) (hall : lvOK a0 Wd R nr nc nn uborn ustays thouses talways tnever tbeside all (k + 1) c) (h16 : a0 (44 + 6 * k) = 16) (h17 : a0 (44 + 6 * c) = 17) (h4 : a0 (44 + 6 * c + 4) = nI k) (hkc : k + 1 ≤ c) (hc : c < nn) : ∀ (m : Nat) (σ : yS) (dr : Int32) (rs : Nat) (a b lo ra : Nat → Int32), m ≤ 98 → lvR a0 Wd R nr uborn ustays thouses talways tnever tbeside σ dr rs a ra → rs ≤ 300 → σ.2.2.2.2.2.2.1 = false → mLP lo → lo k = nI m →
    ∃ (dr' : Int32) (rs' : Nat) (a' b' lo' ra' : Nat → Int32), lvR a0 Wd R nr uborn ustays thouses talways tnever tbeside (yLoop all (m + 1) σ) dr' rs' a' ra' ∧ rs' ≤ 300 ∧ mLP lo' ∧ (∀ o, (o < k ∨ c + 1 ≤ o) → lo' o = lo o) ∧ lvF Wd R nr nc nn (k + 1) dr rs a b lo ra = (if (yLoop all (m + 1) σ).2.2.2.2.2.2.1 = true then .inr (dr', nI rs', a', b', lo', ra') else lvF Wd R nr nc nn (c + 1) dr' rs' a' b' lo' ra') := by
  have hn60 := hE.1.2.2.1
  intro m
  induction m with
  | zero =>
    intro σ dr rs a b lo ra hm hR hr ho hL hlo
    obtain ⟨dr1, rs1, a1, b1, lo1, ra1, p1, p2, p3, p4, p5⟩ := hall σ dr rs a b lo ra hR hr ho hL
    have e1 : yLoop all (0 + 1) σ = all σ := by
      show (if σ.2.2.2.2.2.2.1 = true then σ else yLoop all 0 (all σ)) = all σ
      rw [if_neg (by rw [ho]; decide)]
      rfl
    rw [e1, p5]
    refine ⟨dr1, rs1, a1, b1, lo1, ra1, p1, p2, p3, fun o h => p4 o (by omega), ?_⟩
    by_cases d : (all σ).2.2.2.2.2.2.1 = true
    · rw [if_pos d, if_pos d]
    · rw [if_neg d, if_neg d]
      refine lvF_be (be_done (o := k) (lvR_Y hE p1) p3 hc ?_ ?_ ?_ ?_)
      · rw [lvR_row p1 _ (by omega)]; exact h17
      · rw [lvR_row p1 _ (by omega), h4, nI_clamp (by omega)]
      · rw [lvR_row p1 _ (by omega)]; exact h16
      · rw [p4 k (by omega), hlo]; decide
  | succ m ih =>
    intro σ dr rs a b lo ra hm hR hr ho hL hlo
    obtain ⟨dr1, rs1, a1, b1, lo1, ra1, p1, p2, p3, p4, p5⟩ := hall σ dr rs a b lo ra hR hr ho hL
    have e1 : yLoop all (m + 1 + 1) σ = yLoop all (m + 1) (all σ) := by
      show (if σ.2.2.2.2.2.2.1 = true then σ else yLoop all (m + 1) (all σ)) = yLoop all (m + 1) (all σ)
      rw [if_neg (by rw [ho]; decide)]
    rw [e1, p5]
    by_cases d : (all σ).2.2.2.2.2.2.1 = true
    · rw [yLoop_over (n := m + 1) d]
      exact ⟨dr1, rs1, a1, b1, lo1, ra1, p1, p2, p3, fun o h => p4 o (by omega), by rw [if_pos d, if_pos d]⟩
    · have hk1 : lo1 k = nI (m + 1) := by rw [p4 k (by omega), hlo]
      have hk2 : lo1 k - 1 = nI m := by rw [hk1]; exact nI_pred m
      have hL2 : mLP (upd lo1 k (lo1 k - 1)) := mLP_u p3 (by rw [hk2, nI_clamp (by omega)]; exact ⟨nI_pos (by omega), by omega⟩)
      obtain ⟨dr2, rs2, a2, b2, lo2, ra2, q1, q2, q3, q4, q5⟩ := ih (all σ) dr1 rs1 a1 b1 (upd lo1 k (lo1 k - 1)) ra1 (by omega) p1 p2 (by cases h : (all σ).2.2.2.2.2.2.1 <;> simp_all) hL2 (by rw [pk_us]; exact hk2)
      refine ⟨dr2, rs2, a2, b2, lo2, ra2, q1, q2, q3, fun o h => (q4 o h).trans ((pk_un (by omega)).trans (p4 o (by omega))), ?_⟩
      rw [if_neg d, ← q5]
      refine lvF_be (be_again (o := k) (lvR_Y hE p1) p3 hc ?_ ?_ ?_ ?_)
      · rw [lvR_row p1 _ (by omega)]; exact h17
      · rw [lvR_row p1 _ (by omega), h4, nI_clamp (by omega)]
      · rw [lvR_row p1 _ (by omega)]; exact h16
      · rw [hk1]; exact nI_nle (by omega) (by omega)
theorem lvOK_go {doe : yS → yS} {e : Nat} (hk : k < nn) (h17 : ¬ a0 (44 + 6 * k) = 17) (h : lvD a0 Wd R nr nc nn uborn ustays thouses talways tnever tbeside doe k e) : lvOK a0 Wd R nr nc nn uborn ustays thouses talways tnever tbeside (yGo doe) k e := by
  intro σ dr rs a b lo ra hR hr ho hL
  by_cases d : rs = 300
  · have e1 : yGo doe σ = (σ.1, σ.2.1, σ.2.2.1, σ.2.2.2.1, σ.2.2.2.2.1, σ.2.2.2.2.2.1, true, true, σ.2.2.2.2.2.2.2.2.1, σ.2.2.2.2.2.2.2.2.2.1, σ.2.2.2.2.2.2.2.2.2.2.1, σ.2.2.2.2.2.2.2.2.2.2.2.1, σ.2.2.2.2.2.2.2.2.2.2.2.2) := by
      unfold yGo
      rw [if_pos (by rw [hR.2.1, d]; rfl)]
    obtain ⟨q0, q1, ⟨q2, q3, q4, q5, q6⟩, q7⟩ := hR
    rw [e1]
    refine ⟨dr, rs, a, b, lo, upd ra 4 1, ⟨q0, q1, ⟨?_, ?_, ?_, ?_, ?_⟩, q7⟩, hr, hL, fun _ _ => rfl, ?_⟩
    · rw [pk_un (by omega)]; exact q2
    · rw [pk_un (by omega)]; exact q3
    · rw [pk_un (by omega)]; exact q4
    · rw [pk_un (by omega)]; exact q5
    · rw [pk_us]; rfl
    · dsimp only
      rw [if_pos rfl]
      refine lvF_300 hk ?_ d
      rw [q7.2.2.2 (44 + 6 * k) (by omega) (by omega) (by omega) (by omega) (by omega)]
      exact h17
  · have e1 : yGo doe σ = doe (σ.1, σ.2.1 + 1, σ.2.2) := by
      unfold yGo
      rw [if_neg]
      intro q
      apply d
      rw [hR.2.1] at q
      exact (nI_eq (b := 300) (by omega) (by decide)).mp q
    rw [e1]
    exact h (σ.1, σ.2.1 + 1, σ.2.2) dr rs a b lo ra ⟨hR.1, by show σ.2.1 + 1 = nI (rs + 1); rw [hR.2.1]; exact nI_1 rs, hR.2.2⟩ (by omega) ho hL
theorem yRow_v {t : Int32 × Nat} (h : yRow a0 Wd R nr k t) (h6 : ¬ t.1 = 6) : ∃ v : Nat, 9 ≤ v ∧ v ≤ 14 ∧ a0 (44 + 6 * k) = nI v := by
  rcases h with h | h | h | h | h | h | h
  · exact ⟨9, by omega, by omega, h.2.1⟩
  · exact ⟨10, by omega, by omega, h.2.1⟩
  · exact ⟨11, by omega, by omega, h.2.1⟩
  · exact ⟨12, by omega, by omega, h.2⟩
  · exact ⟨13, by omega, by omega, h.2.1⟩
  · exact ⟨14, by omega, by omega, h.2⟩
  · exact absurd h.1 h6
theorem yRow_18 {t : Int32 × Nat} (h : yRow a0 Wd R nr k t) (h6 : t.1 = 6) : a0 (44 + 6 * k) = 18 := by
  rcases h with h | h | h | h | h | h | h
  · exact absurd (h.1.symm.trans h6) (by decide)
  · exact absurd (h.1.symm.trans h6) (by decide)
  · exact absurd (h.1.symm.trans h6) (by decide)
  · exact absurd (h.1.symm.trans h6) (by decide)
  · exact absurd (h.1.symm.trans h6) (by decide)
  · exact absurd (h.1.symm.trans h6) (by decide)
  · exact h.2
theorem yAct_6 {δ : yD} {an : Nat} : yAct δ 6 an σ = (σ.1, σ.2.1, σ.2.2.1, σ.2.2.2.1, σ.2.2.2.2.1, σ.2.2.2.2.2.1, true, σ.2.2.2.2.2.2.2.1, σ.2.2.2.2.2.2.2.2.1, σ.2.2.2.2.2.2.2.2.2.1, σ.2.2.2.2.2.2.2.2.2.2.1, σ.2.2.2.2.2.2.2.2.2.2.2.1, σ.2.2.2.2.2.2.2.2.2.2.2.2) := by
  unfold yAct yf_actdoes yf_can
  rw [if_neg (by decide), if_neg (by decide), if_neg (by decide), if_neg (by decide), if_neg (by decide), if_neg (by decide)]
  rfl
theorem lvD_act {t : Int32 × Nat} (hE : lvE a0 Wd R nr nc nn thouses talways tnever tbeside tleast tmost) (hrow : yRow a0 Wd R nr k t) (hk : k < nn) : lvD a0 Wd R nr nc nn uborn ustays thouses talways tnever tbeside (yAct (Wd, R, nr, nc, thouses, talways, tnever, tring, uborn, ustays, tbeside, tleast, tmost, trnames) t.1 t.2) k (k + 1) := by
  intro σ dr rs a b lo ra hR hr ho hL
  by_cases h6 : t.1 = 6
  · rw [h6, yAct_6]
    refine ⟨dr, rs + 1, a, b, lo, ra, hR, by omega, hL, fun _ _ => rfl, ?_⟩
    dsimp only
    rw [if_pos rfl]
    exact lvF_stop hk (by rw [lvR_row hR _ (by omega)]; exact yRow_18 hrow h6) (by omega)
  · obtain ⟨d1, d2⟩ := act_does (tring := tring) (trnames := trnames) (b := b) hE hrow h6 hR
    obtain ⟨v, v9, v14, hv⟩ := yRow_v hrow h6
    have e0 := lvR_row hR (44 + 6 * k) (by omega)
    refine ⟨_, rs + 1, _, (mf_does dr a b ra Wd R nr nc k).2.2.2.1, lo, _, d1, by omega, hL, fun _ _ => rfl, ?_⟩
    rw [d2, ho, if_neg (by decide)]
    refine lvF_act hk (by omega) (by omega) ?_ ?_ ?_ ?_ rfl ?_
    · rw [e0, hv]; intro q; have := (nI_eq (b := 17) (by omega) (by decide)).mp q; omega
    · rw [e0, hv]; intro q; have := (nI_eq (b := 18) (by omega) (by decide)).mp q; omega
    · rw [e0, hv]; intro q; have := (nI_eq (b := 16) (by omega) (by decide)).mp q; omega
    · rw [e0, hv]; exact nI_lt (b := 1500) (by omega) (by decide)
    · rw [e0]; exact lvR_row d1 (44 + 6 * k) (by omega)
theorem yTst_v {w : Int32 × Int32 × Int32} (h : yTst a0 Wd R k w) : ∃ v : Nat, 1519 ≤ v ∧ v ≤ 1521 ∧ a0 (44 + 6 * k) = nI v := by
  rcases h with h | h | h
  · exact ⟨1519, by omega, by omega, h.2.1⟩
  · exact ⟨1520, by omega, by omega, h.2.1⟩
  · exact ⟨1521, by omega, by omega, h.2⟩
theorem lvD_when {all doe : yS → yS} {w : Int32 × Int32 × Int32} (hdoe : ∀ σ, doe σ = if yIs (Wd, R, nr, nc, thouses, talways, tnever, tring, uborn, ustays, tbeside, tleast, tmost, trnames) w.1 w.2.1 w.2.2 σ = true then all σ else σ) (hE : lvE a0 Wd R nr nc nn thouses talways tnever tbeside tleast tmost) (hall : lvOK a0 Wd R nr nc nn uborn ustays thouses talways tnever tbeside all (k + 1) c) (ht : yTst a0 Wd R k w) (h4k : a0 (44 + 6 * k + 4) = nI c) (h17 : a0 (44 + 6 * c) = 17) (h4 : a0 (44 + 6 * c + 4) = nI k) (hkc : k + 1 ≤ c) (hc : c < nn) : lvD a0 Wd R nr nc nn uborn ustays thouses talways tnever tbeside doe k (c + 1) := by
  intro σ dr rs a b lo ra hR hr ho hL
  have hn60 := hE.1.2.2.1
  obtain ⟨v, v1, v2, hv⟩ := yTst_v ht
  have e0 := lvR_row hR (44 + 6 * k) (by omega)
  have e4 := lvR_row hR (44 + 6 * k + 4) (by omega)
  have hh := tst_holds (nc := nc) (tring := tring) (tleast := tleast) (tmost := tmost) (trnames := trnames) (b := b) ht hR
  have hw := lvF_when (nn := nn) (nr := nr) (nc := nc) (lo := lo) (dr := dr) (ra := ra) (rs := rs) (c := c) (show k < nn by omega) (show ¬ rs = 300 by omega) (show rs ≤ 300 by omega) (show (1500 : Int32) ≤ a (44 + 6 * k) by rw [e0, hv]; exact nI_le (a := 1500) (by omega) (by omega)) (t := mf_holds a b Wd R k) rfl (by rw [e4, h4k, nI_clamp (by omega)])
  rw [upd_a0] at hw
  rw [hw]
  by_cases d : (mf_holds a b Wd R k).1 = true
  · have e1 : doe σ = all σ := by rw [hdoe, ← hh, if_pos d]
    rw [if_pos d, e1]
    obtain ⟨dr1, rs1, a1, b1, lo1, ra1, p1, p2, p3, p4, p5⟩ := hall σ dr (rs + 1) a (mf_holds a b Wd R k).2 lo ra hR (by omega) ho hL
    refine ⟨dr1, rs1, a1, b1, lo1, ra1, p1, p2, p3, fun o h => p4 o (by omega), ?_⟩
    rw [p5]
    by_cases f : (all σ).2.2.2.2.2.2.1 = true
    · rw [if_pos f, if_pos f]
    · rw [if_neg f, if_neg f]
      refine lvF_be (be_when (o := k) (lvR_Y hE p1) p3 hc ?_ ?_ ?_)
      · rw [lvR_row p1 _ (by omega)]; exact h17
      · rw [lvR_row p1 _ (by omega), h4, nI_clamp (by omega)]
      · rw [lvR_row p1 _ (by omega), hv]; intro q; have := (nI_eq (b := 16) (by omega) (by decide)).mp q; omega
  · have e1 : doe σ = σ := by rw [hdoe, ← hh, if_neg d]
    rw [if_neg d, e1]
    refine ⟨dr, rs + 1, a, (mf_holds a b Wd R k).2, lo, ra, hR, by omega, hL, fun _ _ => rfl, ?_⟩
    rw [ho, if_neg (by decide)]
theorem lvD_loop {all : yS → yS} {m : Nat} (hE : lvE a0 Wd R nr nc nn thouses talways tnever tbeside tleast tmost) (hall : lvOK a0 Wd R nr nc nn uborn ustays thouses talways tnever tbeside all (k + 1) c) (h16 : a0 (44 + 6 * k) = 16) (h1k : a0 (44 + 6 * k + 1) = nI m) (hm1 : 1 ≤ m) (hm : m ≤ 99) (h17 : a0 (44 + 6 * c) = 17) (h4 : a0 (44 + 6 * c + 4) = nI k) (hkc : k + 1 ≤ c) (hc : c < nn) : lvD a0 Wd R nr nc nn uborn ustays thouses talways tnever tbeside (yLoop all m) k (c + 1) := by
  intro σ dr rs a b lo ra hR hr ho hL
  obtain ⟨m', rfl⟩ : ∃ m', m = m' + 1 := ⟨m - 1, by omega⟩
  have e0 := lvR_row hR (44 + 6 * k) (by omega)
  have e1 := lvR_row hR (44 + 6 * k + 1) (by omega)
  have hw := lvF_loop (nn := nn) (nr := nr) (nc := nc) (lo := lo) (dr := dr) (ra := ra) (b := b) (Wd := Wd) (R := R) (rs := rs) (show k < nn by omega) (show ¬ rs = 300 by omega) (show rs ≤ 300 by omega) (show a (44 + 6 * k) = 16 by rw [e0]; exact h16)
  rw [upd_a0, e1, h1k, nI_pred] at hw
  have hL2 : mLP (upd lo k (nI m')) := mLP_u hL (by rw [nI_clamp (by omega)]; exact ⟨nI_pos (by omega), by omega⟩)
  obtain ⟨dr1, rs1, a1, b1, lo1, ra1, p1, p2, p3, p4, p5⟩ := lvOK_loop hE hall h16 h17 h4 hkc hc m' σ dr (rs + 1) a b (upd lo k (nI m')) ra (by omega) hR (by omega) ho hL2 pk_us
  rw [hw]
  exact ⟨dr1, rs1, a1, b1, lo1, ra1, p1, p2, p3, fun o h => (p4 o (by omega)).trans (pk_un (by omega)), p5⟩
theorem yDoes_ok (hE : lvE a0 Wd R nr nc nn thouses talways tnever tbeside tleast tmost) : ∀ (n : Nat) (t : yT n) (k e : Nat), yEnc a0 Wd R nr n t k e → e ≤ nn → lvOK a0 Wd R nr nc nn uborn ustays thouses talways tnever tbeside (yGo (yDoes (Wd, R, nr, nc, thouses, talways, tnever, tring, uborn, ustays, tbeside, tleast, tmost, trnames) n t)) k e := by
  have h17 : ∀ {k : Nat} {t : Int32 × Nat}, yRow a0 Wd R nr k t → ¬ a0 (44 + 6 * k) = 17 := by
    intro k t h
    by_cases h6 : t.1 = 6
    · rw [yRow_18 h h6]; decide
    · obtain ⟨v, v9, v14, hv⟩ := yRow_v h h6
      rw [hv]; intro q; have := (nI_eq (b := 17) (by omega) (by decide)).mp q; omega
  have hAct : ∀ (t : Int32 × Nat) (k e : Nat), (e = k + 1 ∧ yRow a0 Wd R nr k t) → e ≤ nn → lvOK a0 Wd R nr nc nn uborn ustays thouses talways tnever tbeside (yGo (yAct (Wd, R, nr, nc, thouses, talways, tnever, tring, uborn, ustays, tbeside, tleast, tmost, trnames) t.1 t.2)) k e := by
    intro t k e h hle
    obtain ⟨rfl, h2⟩ := h
    exact lvOK_go (by omega) (h17 h2) (lvD_act hE h2 (by omega))
  intro n
  induction n with
  | zero => exact fun t k e h hle => hAct t k e h hle
  | succ n ih =>
    intro t k e h hle
    rcases t with t | w | w
    · exact hAct t k e h hle
    · obtain ⟨c, rfl, r1, r2, r3, r4, r5, r6, r7⟩ := h
      have hkc := yEncs_le (yEnc_lt n) w.2 (k + 1) c r5
      exact lvOK_go (by omega) (by rw [r1]; decide) (lvD_loop hE (yAll_ok (yEnc_lt n) ih w.2 (k + 1) c r5 (by omega)) r1 r2 r3 r4 r6 r7 hkc (by omega))
    · obtain ⟨c, rfl, r1, r2, r5, r6, r7⟩ := h
      have hkc := yEncs_le (yEnc_lt n) w.2 (k + 1) c r5
      obtain ⟨v, v1, v2, hv⟩ := yTst_v r1
      exact lvOK_go (by omega) (by rw [hv]; intro q; have := (nI_eq (b := 17) (by omega) (by decide)).mp q; omega) (lvD_when (fun _ => rfl) hE (yAll_ok (yEnc_lt n) ih w.2 (k + 1) c r5 (by omega)) r1 r2 r6 r7 hkc (by omega))
/-- a whole year's run -/
theorem year_run {cs : List (yT 3)} {seed : Int32} (hE : lvE a0 Wd R nr nc nn thouses talways tnever tbeside tleast tmost) (hen : yEncs (yEnc a0 Wd R nr 3) cs 0 nn) (hR : lvR a0 Wd R nr uborn ustays thouses talways tnever tbeside σ seed 0 a ra) (ho : σ.2.2.2.2.2.2.1 = false) (hL : mLP lo) : ∃ (dr' : Int32) (rs' : Nat) (a' b' lo' ra' : Nat → Int32), lvR a0 Wd R nr uborn ustays thouses talways tnever tbeside (yAll (fun t => yGo (yDoes (Wd, R, nr, nc, thouses, talways, tnever, tring, uborn, ustays, tbeside, tleast, tmost, trnames) 3 t)) cs σ) dr' rs' a' ra' ∧ rs' ≤ 300 ∧ mLP lo' ∧ zcase (mf_lives_L32 Wd R nr nc nn (0, seed, 0, a, b, lo, ra)) (fun t_2 => (t_2.2.1, nI t_2.2.2.1, t_2.2.2.2.1, t_2.2.2.2.2.1, t_2.2.2.2.2.2.1, t_2.2.2.2.2.2.2)) (fun r => r) = (dr', nI rs', a', b', lo', ra') := by
  have h17 : nn ≤ 0 ∨ ¬ a (44 + 6 * 0) = 17 := by
    cases cs with
    | nil => exact Or.inl (by rw [show nn = 0 from hen]; exact Nat.le_refl _)
    | cons t ts =>
      refine Or.inr ?_
      obtain ⟨k1, h1, -⟩ := hen
      rw [lvR_row hR _ (by omega)]
      rcases t with t | w | w
      · by_cases h6 : t.1 = 6
        · rw [yRow_18 h1.2 h6]; decide
        · obtain ⟨v, v9, v14, hv⟩ := yRow_v h1.2 h6
          rw [hv]; intro q; have := (nI_eq (b := 17) (by omega) (by decide)).mp q; omega
      · obtain ⟨c, -, r1, -⟩ := h1
        rw [r1]; decide
      · obtain ⟨c, -, r1, -⟩ := h1
        obtain ⟨v, v1, v2, hv⟩ := yTst_v r1
        rw [hv]; intro q; have := (nI_eq (b := 17) (by omega) (by decide)).mp q; omega
  obtain ⟨dr1, rs1, a1, b1, lo1, ra1, p1, p2, p3, p4, p5⟩ := yAll_ok (yEnc_lt 3) (yDoes_ok (tring := tring) (trnames := trnames) hE 3) cs 0 nn hen (Nat.le_refl _) σ seed 0 a b lo ra hR (by omega) ho hL
  rw [lvF_at h17] at p5
  refine ⟨dr1, rs1, a1, b1, lo1, ra1, p1, p2, p3, ?_⟩
  rw [p5]
  split
  · rfl
  · rw [lvF_end]; rfl
end R22
