/-! r48: the steps of a year on both sides, blocks and all -/
section R48
variable {tape text : Nat → Int32} {zs Wd R nr nc n ct dp k k1 k2 : Nat} {names trn : Nat → Int64} {t1 : Bool × Int32 × Nat × Int32 × Nat × Nat × Int32 × Int32 × Int32 × Int32 × (Nat → Int32)} {d μ μ1 μ2 : yM11}
/-- so many rounds of the model's loop -/
def mRn (names : Nat → Int64) (Wd R nr : Nat) (t1 : Bool × Int32 × Nat × Int32 × Nat × Nat × Int32 × Int32 × Int32 × Int32 × (Nat → Int32)) (d : yM11) (k : Nat) (μ μ' : yM11) : Prop := ∀ f, zw (mf_year_B38 names Wd R nr t1) d (f + k) μ = zw (mf_year_B38 names Wd R nr t1) d f μ'
theorem mRn_0 : mRn names Wd R nr t1 d 0 μ μ := fun _ => rfl
theorem mRn_t (h1 : mRn names Wd R nr t1 d k1 μ μ1) (h2 : mRn names Wd R nr t1 d k2 μ1 μ2) : mRn names Wd R nr t1 d (k1 + k2) μ μ2 := fun f => by
  rw [show f + (k1 + k2) = (f + k2) + k1 by omega, h1, h2]
theorem mRn_1 (hz1 : t1.2.2.1 = zs) (hx1 : t1.2.2.2.2.2.2.2.2.2.2 = text) (h1 : μ.1 = true) (h0 : ¬ μ.2.1 = 0) : mRn names Wd R nr t1 d 1 μ (yMs zs text names Wd R nr μ) := fun _ => zw_l (yB_go hz1 hx1 h1 h0)
/-- both went on -/
def yOk (tape : Nat → Int32) (zs : Nat) (names : Nat → Int64) (Wd R nr : Nat) (t1 : Bool × Int32 × Nat × Int32 × Nat × Nat × Int32 × Int32 × Int32 × Int32 × (Nat → Int32)) (d : yM11) (k0 : Nat) (E : (Nat → Int32) → Nat → Nat → Prop) (μ : yM11) (n : Nat) (ρ' : yR) : Prop :=
  ∃ (μ' : yM11) (n' k : Nat), mRn names Wd R nr t1 d k μ μ' ∧ pYs tape zs ρ' μ' n' ∧ k0 ≤ k ∧ μ.2.2.2.1 + k ≤ μ'.2.2.2.1 ∧ μ'.2.2.2.2.2.2.2.1 = μ.2.2.2.2.2.2.2.1 ∧ (∀ q, q < μ.2.2.2.2.2.2.2.1 → μ'.2.2.2.2.2.2.2.2.2.2 q = μ.2.2.2.2.2.2.2.2.2.2 q) ∧ (∀ j, j < 1684 + 6 * n → ¬ j = 1651 → μ'.2.2.2.2.2.2.2.2.2.1 j = μ.2.2.2.2.2.2.2.2.2.1 j) ∧ E (fun j => μ'.2.2.2.2.2.2.2.2.2.1 (1640 + j)) n n'
/-- both failed alike -/
def yNo (zs : Nat) (names : Nat → Int64) (Wd R nr : Nat) (t1 : Bool × Int32 × Nat × Int32 × Nat × Nat × Int32 × Int32 × Int32 × Int32 × (Nat → Int32)) (d : yM11) (μ : yM11) (ρ' : yR) : Prop :=
  ∃ (μ' : yM11) (k : Nat), mRn names Wd R nr t1 d k μ μ' ∧ μ.2.2.2.1 + k ≤ zs + 1 ∧ yFl ρ' μ'
theorem yNo_t {ρ' : yR} (hr : mRn names Wd R nr t1 d k μ μ1) (he : μ.2.2.2.1 + k ≤ μ1.2.2.2.1) (h : yNo zs names Wd R nr t1 d μ1 ρ') : yNo zs names Wd R nr t1 d μ ρ' := by
  obtain ⟨μ', k', h1, h2, h3⟩ := h
  exact ⟨μ', k + k', mRn_t hr h1, by omega, h3⟩
theorem pYs_en {ρ : yR} (h : pYs tape zs ρ μ n) : μ.2.2.2.1 ≤ zs ∧ ρ.2.1 = μ.2.2.2.1 := ⟨h.2.1.2.2.2.1, h.2.1.2.1⟩
/-- a step, as it stands on both sides -/
def stpS {β : Type} (tape : Nat → Int32) (zs : Nat) (names trn : Nat → Int64) (Wd R nr nc : Nat) (t1 : Bool × Int32 × Nat × Int32 × Nat × Nat × Int32 × Int32 × Int32 × Int32 × (Nat → Int32)) (d : yM11) (lev : Nat) (stp : yR → yR × Option β) (enc : (Nat → Int32) → β → Nat → Nat → Prop) : Prop :=
  ∀ (ρ : yR) (μ : yM11) (n : Nat), pYs tape zs ρ μ n → μ.2.2.2.2.2.2.2.1 + lev = 3 → (0 < μ.2.2.2.2.2.2.2.1 → ¬ rf_isWord ρ.1 ρ.2.1 ρ.2.2.1 tape 21 = true) → (μ.2.1 = 0 → 0 < μ.2.2.2.2.2.2.2.1) →
    (∃ ρ' t, stp ρ = (ρ', some t) ∧ yOk tape zs names Wd R nr t1 d 1 (fun a n n' => enc a t n n') μ n ρ') ∨ (∃ ρ', stp ρ = (ρ', none) ∧ yNo zs names Wd R nr t1 d μ ρ')
theorem kids_y {β : Type} {lev : Nat} {isE : yR → Bool} {stp : yR → yR × Option β} {enc : (Nat → Int32) → β → Nat → Nat → Prop} (hst : stpS tape zs names trn Wd R nr nc t1 d lev stp enc) (hlt : ∀ a t k e, enc a t k e → k < e) (hsm : ∀ (a a' : Nat → Int32) t k e, enc a t k e → (∀ j, 44 + 6 * k ≤ j → j < 44 + 6 * e → a' j = a j) → enc a' t k e)
    (hE : ∀ (ρ : yR) (μ : yM11) (n : Nat), pYs tape zs ρ μ n → μ.2.2.2.2.2.2.2.1 + lev = 3 → ¬ isE ρ = true → (0 < μ.2.2.2.2.2.2.2.1 → ¬ rf_isWord ρ.1 ρ.2.1 ρ.2.2.1 tape 21 = true) ∧ (μ.2.1 = 0 → 0 < μ.2.2.2.2.2.2.2.1)) : ∀ (f : Nat) (ρ : yR) (μ : yM11) (n : Nat) (cs : List β), pYs tape zs ρ μ n → μ.2.2.2.2.2.2.2.1 + lev = 3 → zs - ρ.2.1 < f →
    (∃ ρ' cs', yKi isE stp f ρ cs = (ρ', some (cs ++ cs')) ∧ isE ρ' = true ∧ yOk tape zs names Wd R nr t1 d 0 (fun a n n' => yEncs (enc a) cs' n n') μ n ρ') ∨ (∃ ρ', yKi isE stp f ρ cs = (ρ', none) ∧ yNo zs names Wd R nr t1 d μ ρ') := by
  intro f
  induction f with
  | zero => intro ρ μ n cs _ _ h; exact absurd h (Nat.not_lt_zero _)
  | succ f ih =>
    intro ρ μ n cs hs hl hf
    obtain ⟨b1, b2⟩ := pYs_en hs
    by_cases c : isE ρ = true
    · refine Or.inl ⟨ρ, [], ?_, c, μ, n, 0, mRn_0, hs, Nat.le_refl _, Nat.le_refl _, rfl, fun _ _ => rfl, fun _ _ _ => rfl, rfl⟩
      unfold yKi
      rw [if_pos c, List.append_nil]
    · obtain ⟨h1, h2⟩ := hE ρ μ n hs hl c
      rcases hst ρ μ n hs hl h1 h2 with ⟨ρ1, t, e1, μ1, n1, q1, g1, g2, g3, g4, g5, g6, g7, g8⟩ | ⟨ρ1, e1, g1⟩
      · have eK : yKi isE stp (f + 1) ρ cs = yKi isE stp f ρ1 (cs ++ [t]) := by
          show (if isE ρ = true then (ρ, some cs) else zlet (stp ρ) (fun r => zoc r.2 (r.1, none) (fun t => yKi isE stp f r.1 (cs ++ [t])))) = _
          rw [if_neg c, e1]
          rfl
        rw [eK]
        obtain ⟨b3, b4⟩ := pYs_en g2
        rcases ih ρ1 μ1 n1 (cs ++ [t]) g2 (by rw [g5]; exact hl) (by omega) with ⟨ρ2, cs', e2, e3, μ2, n2, q2, k1, k2, k3, k4, k5, k6, k7, k8⟩ | ⟨ρ2, e2, e3⟩
        · refine Or.inl ⟨ρ2, t :: cs', ?_, e3, μ2, n2, q1 + q2, mRn_t g1 k1, k2, Nat.zero_le _, by omega, by rw [k5, g5], fun q hq => by rw [k6 q (by omega), g6 q hq], fun j hj hn => ?_, n1, ?_, k8⟩
          · rw [e2, List.append_assoc]; rfl
          · have := hlt _ _ _ _ g8
            rw [k7 j (by omega) hn, g7 j hj hn]
          · exact hsm _ _ _ _ _ g8 (fun j j1 j2 => k7 _ (by omega) (by omega))
        · exact Or.inr ⟨ρ2, e2, yNo_t g1 g4 e3⟩
      · refine Or.inr ⟨ρ1, ?_, g1⟩
        show (if isE ρ = true then (ρ, some cs) else zlet (stp ρ) (fun r => zoc r.2 (r.1, none) (fun t => yKi isE stp f r.1 (cs ++ [t])))) = _
        rw [if_neg c, e1]
        rfl
theorem yFa_l {ρ : yR} (h : yFa ρ μ) : yFl ρ μ := Or.inl h
theorem tk2_n {h : Int32} (e : h = 2) : ¬ h = 0 := by rw [e]; decide
/-- one round of the model's loop that fails -/
theorem yNo_1 {ρ ρ' : yR} (hz1 : t1.2.2.1 = zs) (hx1 : t1.2.2.2.2.2.2.2.2.2.2 = text) (hs : pYs tape zs ρ μ n) (h0 : ¬ μ.2.1 = 0) (h : yFa ρ' (yMs zs text names Wd R nr μ)) : yNo zs names Wd R nr t1 d μ ρ' := ⟨_, 1, mRn_1 hz1 hx1 hs.1 h0, by have := (pYs_en hs).1; omega, yFa_l h⟩
/-- a step that is no block, told so -/
theorem stp_noS {β : Type} (mkA : Int32 × Nat → β) (blk : Bool → yR → yR × Option β) (deep : Bool) {ρ : yR} {E : (Nat → Int32) → β → Nat → Nat → Prop} (hEn : ∀ (a : Nat → Int32) t n, yRow a Wd R nr n t → E a (mkA t) n (n + 1)) (h : pTx tape text zs) (h9 : zs ≤ 900) (hz1 : t1.2.2.1 = zs) (hx1 : t1.2.2.2.2.2.2.2.2.2.2 = text) (hW0 : 1 ≤ Wd) (hW : Wd ≤ 5) (hR0 : 1 ≤ R) (hR : R ≤ 6) (h4 : nr ≤ 4) (hnm : ∀ k, k < nr → pNm (trn k) (names k)) (hs : pYs tape zs ρ μ n) (hb : ¬ yIb (yX zs Wd R nr nc tape trn) ρ = true) (he : 0 < μ.2.2.2.2.2.2.2.1 → ¬ rf_isWord ρ.1 ρ.2.1 ρ.2.2.1 tape 21 = true) (h0 : μ.2.1 = 0 → 0 < μ.2.2.2.2.2.2.2.1) : (∃ ρ' t, yStp (yX zs Wd R nr nc tape trn) mkA blk deep ρ = (ρ', some t) ∧ yOk tape zs names Wd R nr t1 d 1 (fun a n n' => E a t n n') μ n ρ') ∨ (∃ ρ', yStp (yX zs Wd R nr nc tape trn) mkA blk deep ρ = (ρ', none) ∧ yNo zs names Wd R nr t1 d μ ρ') := by
  rcases stp_no (nc := nc) mkA blk deep h h9 hW0 hW hR0 hR h4 hnm hs hb he h0 with ⟨ρ', t, e1, e2, e3, e4, e5, e6, e7, e8⟩ | ⟨ρ', e1, ⟨e2, e3⟩ | ⟨e2, e3⟩⟩
  · have := e3.2.1.2.2.1
    dsimp only at this
    exact Or.inl ⟨ρ', mkA t, e1, _, n + 1, 1, mRn_1 hz1 hx1 hs.1 e2, e3, Nat.le_refl _, by omega, e5, fun q _ => by rw [e6], e7, hEn _ _ _ e8⟩
  · exact Or.inr ⟨ρ', e1, yNo_1 hz1 hx1 hs e2 e3⟩
  · exact Or.inr ⟨ρ', e1, μ, 0, mRn_0, by have := (pYs_en hs).1; omega, e3⟩
theorem stp_badS {β : Type} (mkA : Int32 × Nat → β) (blk : Bool → yR → yR × Option β) (deep : Bool) {ρ : yR} {w : Bool} (hz1 : t1.2.2.1 = zs) (hx1 : t1.2.2.2.2.2.2.2.2.2.2 = text) (hs : pYs tape zs ρ μ n) (hb : yIb (yX zs Wd R nr nc tape trn) ρ = true) (hv : mf_inWords zs μ.2.1 μ.2.2.1 μ.2.2.2.1 text = (if w = true then 15 else 16)) (h2 : μ.2.1 = 2) (hbad : μ.2.2.2.2.2.2.2.2.1 = 30 ∨ (deep = true ∧ μ.2.2.2.2.2.2.2.1 = 3)) : ∃ ρ', yStp (yX zs Wd R nr nc tape trn) mkA blk deep ρ = (ρ', none) ∧ yNo zs names Wd R nr t1 d μ ρ' := by
  obtain ⟨ρ', e1, e2⟩ := stp_bad (names := names) (nc := nc) mkA blk deep hs hb hv h2 hbad
  exact ⟨ρ', e1, yNo_1 hz1 hx1 hs (tk2_n h2) e2⟩
/-- a block's rows, closed -/
theorem blk_enc {α : Type} {enc : (Nat → Int32) → α → Nat → Nat → Prop} {a1 a2 b : Nat → Int32} {op : Nat → Int32} {c q : Nat} {hb : yHb} {cs : List α} (hlt : ∀ a t k e, enc a t k e → k < e) (hsm : ∀ (a a' : Nat → Int32) t k e, enc a t k e → (∀ j, 44 + 6 * k ≤ j → j < 44 + 6 * e → a' j = a j) → enc a' t k e) (h1 : hdR (fun j => a1 (1640 + j)) Wd R n hb) (hf : ∀ j, j < 1684 + 6 * (n + 1) → ¬ j = 1651 → a2 j = a1 j) (hk : yEncs (enc (fun j => a2 (1640 + j))) cs (n + 1) c) (hc : c < 60) (hop : op q = nI n) (hb2 : b = upd (upd (at7 a2 c 17) (1684 + (6 * c) + 4) (op q)) ((1684 + (6 * ((op q).toNatClampNeg))) + 4) (nI c)) : yEncS (fun j => b (1640 + j)) Wd R nr (enc (fun j => b (1640 + j))) (yTb (hb, cs)) n (c + 1) ∧ (∀ j, j < 1684 + 6 * n → ¬ j = 1651 → b j = a1 j) := by
  have hnc : n + 1 ≤ c := yEncs_le (hlt _) cs (n + 1) c hk
  have on : (op q).toNatClampNeg = n := by rw [hop, nI_clamp (by omega)]
  rw [on, hop] at hb2
  have bo : ∀ j, ¬ j = 1651 → ¬ (1684 + 6 * c ≤ j ∧ j < 1690 + 6 * c) → ¬ j = 1684 + 6 * n + 4 → b j = a2 j := fun j q1 q2 q3 => by
    rw [hb2, pk_un (by omega), pk_un (by omega), at7_o q1 q2]
  have bc : b (1640 + (44 + 6 * c)) = 17 := by
    rw [show 1640 + (44 + 6 * c) = 1684 + 6 * c by omega, hb2, pk_un (by omega), pk_un (by omega), at7_r]
  have bc4 : b (1640 + (44 + 6 * c + 4)) = nI n := by
    rw [show 1640 + (44 + 6 * c + 4) = 1684 + 6 * c + 4 by omega, hb2, pk_un (by omega), pk_us]
  have bn4 : b (1640 + (44 + 6 * n + 4)) = nI c := by
    rw [show 1640 + (44 + 6 * n + 4) = 1684 + 6 * n + 4 by omega, hb2, pk_us]
  have bh : ∀ i, i < 6 → ¬ i = 4 → b (1640 + (44 + 6 * n + i)) = a1 (1640 + (44 + 6 * n + i)) := fun i i1 i2 => by
    rw [bo _ (by omega) (by omega) (by omega), hf _ (by omega) (by omega)]
  have bh0 : b (1640 + (44 + 6 * n)) = a1 (1640 + (44 + 6 * n)) := bh 0 (by omega) (by omega)
  have hk2 : yEncs (enc (fun j => b (1640 + j))) cs (n + 1) c := yEncs_same2 (K := n + 1) (N := c) (hlt _) (fun t k e ht k1 k2 => hsm _ _ _ _ _ ht (fun j j1 j2 => bo (1640 + j) (by omega) (by omega) (by omega))) cs (n + 1) c hk (Nat.le_refl _) (Nat.le_refl _)
  refine ⟨?_, fun j j1 j2 => by rw [bo j j2 (by omega) (by omega), hf j (by omega) j2]⟩
  rcases hb with m | w
  · obtain ⟨r1, r2, r3, r4⟩ := h1
    exact ⟨c, rfl, bh0.trans r1, (bh 1 (by omega) (by omega)).trans r2, r3, r4, hk2, bc, bc4⟩
  · refine ⟨c, rfl, ?_, bn4, hk2, bc, bc4⟩
    exact yTst_4 (a := fun j => a1 (1640 + j)) (a' := fun j => b (1640 + j)) bh0 (bh 1 (by omega) (by omega)) (bh 2 (by omega) (by omega)) (bh 5 (by omega) (by omega)) h1
theorem end_17 {ρ : yR} (h : pTx tape text zs) (h9 : zs ≤ 900) (hs : pYs tape zs ρ μ n) (he : rf_isWord ρ.1 ρ.2.1 ρ.2.2.1 tape 21 = true) : mf_inWords zs μ.2.1 μ.2.2.1 μ.2.2.2.1 text = 17 := by
  have i21 := word_iff h h9 hs.2.1 (wi := 21) (by omega)
  dsimp only at i21
  rw [show nI (xWo 21) = (17 : Int32) from rfl] at i21
  exact i21.mp he
theorem w17_2 (h : mf_inWords zs μ.2.1 μ.2.2.1 μ.2.2.2.1 text = 17) : μ.2.1 = 2 := by
  apply Classical.byContradiction
  intro q
  unfold mf_inWords at h
  rw [if_neg q] at h
  exact absurd h (by decide)
theorem yStp_b {β : Type} {χ : yK} {ρ : yR} {w : Bool} (mkA : Int32 × Nat → β) (blk : Bool → yR → yR × Option β) (hb : yIb χ ρ = true) (b2 : yWd χ ρ 19 = w) (hc : ¬ ρ.2.2.2.2.1 = 30) : yStp χ mkA blk false ρ = zlet (blk w (yS1 ρ)) (fun r => zoc r.2 (r.1, none) (fun t => zlet (yCl χ r.1) (fun c => (c.2, if c.1 = true then some t else none)))) := by
  unfold yStp
  rw [if_neg (fun q => q.2 hb), if_neg hc, if_neg (fun q => (by cases q.2))]
  unfold yBod
  rw [if_pos hb, b2]
theorem step_y (h : pTx tape text zs) (h9 : zs ≤ 900) (hz1 : t1.2.2.1 = zs) (hx1 : t1.2.2.2.2.2.2.2.2.2.2 = text) (hW0 : 1 ≤ Wd) (hW : Wd ≤ 5) (hR0 : 1 ≤ R) (hR : R ≤ 6) (h4 : nr ≤ 4) (hnm : ∀ k, k < nr → pNm (trn k) (names k)) : ∀ lev, stpS tape zs names trn Wd R nr nc t1 d lev (yStep (yX zs Wd R nr nc tape trn) lev) (fun a => yEnc a Wd R nr lev)
  | 0 => by
    intro ρ μ n hs hl he h0
    by_cases hb : yIb (yX zs Wd R nr nc tape trn) ρ = true
    · rcases tok_y (Wd := Wd) (R := R) (nr := nr) (nc := nc) (trn := trn) h h9 hs.2.1 with ⟨w, b1, b2, b3, b4⟩ | ⟨b1, -⟩ | ⟨b1, -⟩
      · obtain ⟨ρ', e1, e2⟩ := stp_badS (names := names) (nc := nc) (d := d) (β := yT 0) (fun t => t) (fun _ ρ => (ρ, none)) true hz1 hx1 hs hb b3 b4 (Or.inr ⟨rfl, by omega⟩)
        exact Or.inr ⟨ρ', e1, e2⟩
      · exact absurd hb b1
      · exact absurd hb b1
    · exact stp_noS (β := yT 0) (fun t => t) (fun _ ρ => (ρ, none)) true (fun a t n hr => ⟨rfl, hr⟩) h h9 hz1 hx1 hW0 hW hR0 hR h4 hnm hs hb he h0
  | lev + 1 => by
    have IH : stpS tape zs names trn Wd R nr nc t1 d lev (yStep (yX zs Wd R nr nc tape trn) lev) (fun a => yEnc a Wd R nr lev) := step_y h h9 hz1 hx1 hW0 hW hR0 hR h4 hnm lev
    intro ρ μ n hs hl he h0
    by_cases hb : yIb (yX zs Wd R nr nc tape trn) ρ = true
    · rcases tok_y (Wd := Wd) (R := R) (nr := nr) (nc := nc) (trn := trn) h h9 hs.2.1 with ⟨w, b1, b2, b3, b4⟩ | ⟨b1, -⟩ | ⟨b1, -⟩
      · by_cases c30 : μ.2.2.2.2.2.2.2.2.1 = 30
        · obtain ⟨ρ', e1, e2⟩ := stp_badS (names := names) (nc := nc) (d := d) (β := yT (lev + 1)) (fun t => .inl t) (fun w ρ => yBt (yBl (yX zs Wd R nr nc tape trn) (yStep (yX zs Wd R nr nc tape trn) lev) w ρ)) false hz1 hx1 hs hb b3 b4 (Or.inl c30)
          exact Or.inr ⟨ρ', e1, e2⟩
        · have h20 := tk2_n b4
          have hst := hs.2.2.2.1
          have eS : yStep (yX zs Wd R nr nc tape trn) (lev + 1) ρ = zlet (yBt (yBl (yX zs Wd R nr nc tape trn) (yStep (yX zs Wd R nr nc tape trn) lev) w (yS1 ρ))) (fun r => zoc r.2 (r.1, none) (fun t => zlet (yCl (yX zs Wd R nr nc tape trn) r.1) (fun c => (c.2, if c.1 = true then some t else none)))) := by
            exact yStp_b (β := yT (lev + 1)) (fun t => .inl t) (fun w ρ => yBt (yBl (yX zs Wd R nr nc tape trn) (yStep (yX zs Wd R nr nc tape trn) lev) w ρ)) hb b2 (fun q => c30 (hst.symm.trans q))
          rw [eS]
          clear eS
          have eB : yBl (yX zs Wd R nr nc tape trn) (yStep (yX zs Wd R nr nc tape trn) lev) w (yS1 ρ) = zlet (yHd (yX zs Wd R nr nc tape trn) w (yNx (yX zs Wd R nr nc tape trn) (yS1 ρ))) (fun r => zoc r.2 (r.1, none) (fun h => zlet (yCl (yX zs Wd R nr nc tape trn) r.1) (fun c => if c.1 = true then (fun (h : yHb) (c2 : yR) => zlet (yKi (fun ρ => yWd (yX zs Wd R nr nc tape trn) ρ 21) (yStep (yX zs Wd R nr nc tape trn) lev) (zs - c2.1 + 1) c2 []) (fun k => zoc k.2 (k.1, none) (fun cs => (yNx (yX zs Wd R nr nc tape trn) k.1, some (h, cs))))) h c.2 else (c.2, none)))) := rfl
          rw [eB]
          clear eB
          rcases head_y (nc := nc) (trn := trn) (names := names) (fun (h : yHb) (c2 : yR) => zlet (yKi (fun ρ => yWd (yX zs Wd R nr nc tape trn) ρ 21) (yStep (yX zs Wd R nr nc tape trn) lev) (zs - c2.1 + 1) c2 []) (fun k => zoc k.2 (k.1, none) (fun cs => (yNx (yX zs Wd R nr nc tape trn) k.1, some (h, cs))))) h h9 hW0 hW hR0 hR hs b3 c30 (by omega) with ⟨ρ1, hh, e1, e2, e3, e4, e5, e6, e7⟩ | ⟨ρ1, e1, e2⟩
          · rw [e1]
            clear e1
            obtain ⟨μ1, hμ1⟩ : ∃ μ1, yMs zs text names Wd R nr μ = μ1 := ⟨_, rfl⟩
            have r1 : mRn names Wd R nr t1 d 1 μ (yMs zs text names Wd R nr μ) := mRn_1 hz1 hx1 hs.1 h20
            rw [hμ1] at e2 e3 e4 e5 e6 e7 r1
            have hfe := e2.2.1.2.2.1
            dsimp only at hfe
            have hE : ∀ (ρ : yR) (μ : yM11) (n : Nat), pYs tape zs ρ μ n → μ.2.2.2.2.2.2.2.1 + lev = 3 → ¬ (fun ρ => yWd (yX zs Wd R nr nc tape trn) ρ 21) ρ = true → (0 < μ.2.2.2.2.2.2.2.1 → ¬ rf_isWord ρ.1 ρ.2.1 ρ.2.2.1 tape 21 = true) ∧ (μ.2.1 = 0 → 0 < μ.2.2.2.2.2.2.2.1) := fun ρ μ n hs hl hq => ⟨fun _ => hq, fun _ => by omega⟩
            rcases kids_y (enc := fun a => yEnc a Wd R nr lev) IH (fun a t k e => yEnc_lt lev t k e) (fun a a' t k e ht hj => yEnc_same2 (K := k) (N := e) hj lev t k e ht (Nat.le_refl _) (Nat.le_refl _)) hE (zs - ρ1.1 + 1) ρ1 μ1 (n + 1) [] e2 (by rw [e4]; omega) (by have q1 := e2.2.1.1; have q2 := e2.2.1.2.1; have q3 := e2.2.1.2.2.1; dsimp only at q1 q2 q3; omega) with ⟨ρ2, cs, f1, f2, μ2, n2, q2, k1, k2, k3, k4, k5, k6, k7, k8⟩ | ⟨ρ2, f1, f2⟩
            · have f2' : rf_isWord ρ2.1 ρ2.2.1 ρ2.2.2.1 tape 21 = true := f2
              have h17 := end_17 h h9 k2 f2'
              have eK : zlet (yKi (fun ρ => yWd (yX zs Wd R nr nc tape trn) ρ 21) (yStep (yX zs Wd R nr nc tape trn) lev) (zs - ρ1.1 + 1) ρ1 []) (fun k => zoc k.2 (k.1, none) (fun cs => (yNx (yX zs Wd R nr nc tape trn) k.1, some (hh, cs)))) = (yNx (yX zs Wd R nr nc tape trn) ρ2, some (hh, cs)) := by
                rw [f1]
                rfl
              try dsimp only
              rw [eK]
              clear eK f1
              have k2c := k2.2.2.2.2.1
              have k2n := k2.2.2.2.2.2.2
              have hop : μ2.2.2.2.2.2.2.2.2.2.2 μ.2.2.2.2.2.2.2.1 = nI n := by
                rw [k6 _ (by omega), e5, pk_us]
              rcases close_y (nc := nc) (trn := trn) (names := names) (Wd := Wd) (R := R) (nr := nr) (yTb (hh, cs) : yT (lev + 1)) (q := μ.2.2.2.2.2.2.2.1) h h9 k2 h17 (by omega) with ⟨ρ3, g1, g2, g3, g4, g5, g6⟩ | ⟨ρ3, g1, g2⟩
              · have g2e := g2.2.1.2.2.1
                dsimp only at g2e
                obtain ⟨z1, z2⟩ := blk_enc (nr := nr) (enc := fun a => yEnc a Wd R nr lev) (n := n) (fun a t k e => yEnc_lt lev t k e) (fun a a' t k e ht hj => yEnc_same2 (K := k) (N := e) hj lev t k e ht (Nat.le_refl _) (Nat.le_refl _)) e7 k7 k8 (by omega) hop g6
                refine Or.inl ⟨ρ3, yTb (hh, cs), g1, _, n2 + 1, 1 + (q2 + 1), mRn_t r1 (mRn_t k1 (mRn_1 hz1 hx1 k2.1 (tk2_n (w17_2 h17)))), g2, by omega, by omega, g4, fun j hj => ?_, fun j j1 j2 => ?_, z1⟩
                · rw [g5, k6 j (by omega), e5, pk_un (by omega)]
                · rw [z2 j j1 j2, e6 j j1 j2]
              · exact Or.inr ⟨ρ3, g1, yNo_t r1 (by omega) (yNo_t k1 k4 (yNo_1 hz1 hx1 k2 (tk2_n (w17_2 h17)) g2))⟩
            · refine Or.inr ⟨ρ2, ?_, yNo_t r1 (by omega) f2⟩
              try dsimp only
              rw [f1]
              rfl
          · refine Or.inr ⟨ρ1, ?_, yNo_1 hz1 hx1 hs h20 e2⟩
            rw [e1]
            rfl
      · exact absurd hb b1
      · exact absurd hb b1
    · exact stp_noS (β := yT (lev + 1)) (fun t => .inl t) (fun w ρ => yBt (yBl (yX zs Wd R nr nc tape trn) (yStep (yX zs Wd R nr nc tape trn) lev) w ρ)) false (fun a t n hr => ⟨rfl, hr⟩) h h9 hz1 hx1 hW0 hW hR0 hR h4 hnm hs hb he h0
end R48
