/-! r46: one step of a year on both sides -/
section R46
variable {tape text : Nat → Int32} {zs Wd R nr nc n ct dp : Nat} {names trn : Nat → Int64} {fr en k : Nat} {tk val fp fl v : Int32} {a op : Nat → Int32}
abbrev yM11 : Type := Bool × Int32 × Nat × Nat × Int32 × Int32 × Int32 × Nat × Nat × (Nat → Int32) × (Nat → Int32)
def at7 (a : Nat → Int32) (n : Nat) (v : Int32) : Nat → Int32 := upd (upd (upd (upd (upd (upd (upd a (1684 + (6 * n)) v) (1684 + (6 * n) + 1) 0) (1684 + (6 * n) + 2) 0) (1684 + (6 * n) + 3) 0) (1684 + (6 * n) + 4) 0) (1684 + (6 * n) + 5) 0) 1651 (nI (n + 1))
theorem at7_o (h1 : ¬ k = 1651) (h : ¬ (1684 + 6 * n ≤ k ∧ k < 1690 + 6 * n)) : at7 a n v k = a k := by
  unfold at7
  rw [pk_un h1, pk_un (by omega), pk_un (by omega), pk_un (by omega), pk_un (by omega), pk_un (by omega), pk_un (by omega)]
theorem at7_r : at7 a n v (1684 + 6 * n) = v := by
  unfold at7
  rw [pk_un (by omega), pk_un (by omega), pk_un (by omega), pk_un (by omega), pk_un (by omega), pk_un (by omega), pk_us]
theorem at7_n : at7 a n v 1651 = nI (n + 1) := pk_us
/-- the model's step out of a state -/
def yMs (zs : Nat) (text : Nat → Int32) (names : Nat → Int64) (Wd R nr : Nat) (μ : yM11) : yM11 := mf_yearStep zs μ.2.1 μ.2.2.1 μ.2.2.2.1 μ.2.2.2.2.1 μ.2.2.2.2.2.1 μ.2.2.2.2.2.2.1 μ.2.2.2.2.2.2.2.1 μ.2.2.2.2.2.2.2.2.1 μ.2.2.2.2.2.2.2.2.2.1 names text μ.2.2.2.2.2.2.2.2.2.2 Wd R nr
theorem ys_act (hv : mf_inWords zs tk fr en text = v) (h15 : ¬ v = 15) (h16 : ¬ v = 16) (h9 : ¬ v < 9) (h18 : ¬ 18 < v) (h17 : ¬ v = 17) (hct : ¬ ct = 30) (hn : (a 1651).toNatClampNeg = n) : mf_yearStep zs tk fr en val fp fl dp ct a names text op Wd R nr = (fun t_19 : yM8 => (if t_19.1 = true then (fun t_21 : Bool × Int32 × Nat × Nat × Int32 × Int32 × Int32 => ((t_21.1, t_21.2.1, t_21.2.2.1, t_21.2.2.2.1, t_21.2.2.2.2.1, t_21.2.2.2.2.2.1, t_21.2.2.2.2.2.2, dp, ct + 1, t_19.2.2.2.2.2.2.2, op) : yM11)) (mf_wantSign zs t_19.2.1 t_19.2.2.1 t_19.2.2.2.1 t_19.2.2.2.2.1 t_19.2.2.2.2.2.1 t_19.2.2.2.2.2.2.1 text 59) else (false, t_19.2.1, t_19.2.2.1, t_19.2.2.2.1, t_19.2.2.2.2.1, t_19.2.2.2.2.2.1, t_19.2.2.2.2.2.2.1, dp, ct + 1, t_19.2.2.2.2.2.2.2, op))) (mf_yearOrder zs (mf_onward zs en text).1 (mf_onward zs en text).2.1 (mf_onward zs en text).2.2.1 (mf_onward zs en text).2.2.2 fp fl (at7 a n v) names text Wd R nr v (1684 + (6 * n))) := by
  unfold mf_yearStep
  rw [zl (mf_inWords zs tk fr en text), hv, if_neg h15, if_neg h16, if_neg h9, if_neg h18, if_neg h17, if_neg hct, hn]
  rfl
theorem ys_head (hv : mf_inWords zs tk fr en text = v) (h1 : v = 15 ∨ v = 16) (hct : ¬ ct = 30) (hdp : ¬ dp = 3) (hn : (a 1651).toNatClampNeg = n) : mf_yearStep zs tk fr en val fp fl dp ct a names text op Wd R nr = (fun t_19 : yM8 => (if t_19.1 = true then (fun t_21 : Bool × Int32 × Nat × Nat × Int32 × Int32 × Int32 => ((t_21.1, t_21.2.1, t_21.2.2.1, t_21.2.2.2.1, t_21.2.2.2.2.1, t_21.2.2.2.2.2.1, t_21.2.2.2.2.2.2, dp + 1, ct + 1, t_19.2.2.2.2.2.2.2, upd op dp (nI n)) : yM11)) (mf_wantSign zs t_19.2.1 t_19.2.2.1 t_19.2.2.2.1 t_19.2.2.2.2.1 t_19.2.2.2.2.2.1 t_19.2.2.2.2.2.2.1 text 59) else (false, t_19.2.1, t_19.2.2.1, t_19.2.2.2.1, t_19.2.2.2.2.1, t_19.2.2.2.2.2.1, t_19.2.2.2.2.2.2.1, dp, ct + 1, t_19.2.2.2.2.2.2.2, op))) (mf_yearOrder zs (mf_onward zs en text).1 (mf_onward zs en text).2.1 (mf_onward zs en text).2.2.1 (mf_onward zs en text).2.2.2 fp fl (at7 a n v) names text Wd R nr v (1684 + (6 * n))) := by
  unfold mf_yearStep
  rw [zl (mf_inWords zs tk fr en text), hv]
  rcases h1 with h | h
  · rw [if_pos h, if_neg hct, if_neg hdp, hn]
    rfl
  · rw [if_neg (show ¬ v = 15 by rw [h]; decide), if_pos h, if_neg hct, if_neg hdp, hn]
    rfl
theorem ys_close (hv : mf_inWords zs tk fr en text = 17) (hdp : ¬ dp = 0) (hn : (a 1651).toNatClampNeg = n) : mf_yearStep zs tk fr en val fp fl dp ct a names text op Wd R nr = (fun t_27 : Bool × Int32 × Nat × Nat × Int32 × Int32 × Int32 => ((t_27.1, t_27.2.1, t_27.2.2.1, t_27.2.2.2.1, t_27.2.2.2.2.1, t_27.2.2.2.2.2.1, t_27.2.2.2.2.2.2, dp - 1, ct, upd (upd (at7 a n 17) (1684 + (6 * n) + 4) (op (dp - 1))) ((1684 + (6 * ((op (dp - 1)).toNatClampNeg))) + 4) (nI n), op) : yM11)) (mf_wantSign zs (mf_onward zs en text).1 (mf_onward zs en text).2.1 (mf_onward zs en text).2.2.1 (mf_onward zs en text).2.2.2 fp fl text 59) := by
  unfold mf_yearStep
  rw [zl (mf_inWords zs tk fr en text), hv, if_neg (show ¬ (17 : Int32) = 15 by decide), if_neg (show ¬ (17 : Int32) = 16 by decide), if_neg (show ¬ (17 : Int32) < 9 by decide), if_neg (show ¬ (18 : Int32) < 17 by decide), if_pos (show (17 : Int32) = 17 from rfl), if_neg hdp, hn, zl (mf_onward zs en text)]
  have e : ∀ t : Int32 × Nat × Nat × Int32, mf_yearOrder zs t.1 t.2.1 t.2.2.1 t.2.2.2 fp fl (at7 a n 17) names text Wd R nr 17 (1684 + (6 * n)) = (true, t.1, t.2.1, t.2.2.1, t.2.2.2, fp, fl, at7 a n 17) := by
    intro t
    unfold mf_yearOrder
    rw [if_neg (show ¬ (17 : Int32) = 9 by decide), if_neg (show ¬ (17 : Int32) = 10 by decide), if_neg (show ¬ (17 : Int32) = 11 by decide), if_neg (show ¬ (17 : Int32) = 12 by decide), if_neg (show ¬ (17 : Int32) = 13 by decide), if_neg (show ¬ (17 : Int32) = 14 by decide), if_neg (show ¬ (17 : Int32) = 15 by decide), if_neg (show ¬ (17 : Int32) = 16 by decide)]
  have e2 := e (mf_onward zs en text)
  unfold at7 at e2
  rw [e2]
  rfl
/-- the two states stand alike, n rows written -/
def pYs (tape : Nat → Int32) (zs : Nat) (ρ : yR) (μ : yM11) (n : Nat) : Prop :=
  μ.1 = true ∧ pTk tape zs (ρ.1, ρ.2.1, ρ.2.2.1, ρ.2.2.2.1) (μ.2.1, μ.2.2.1, μ.2.2.2.1, μ.2.2.2.2.1) ∧ μ.2.2.2.2.2.2.1 = 0 ∧ ρ.2.2.2.2.1 = μ.2.2.2.2.2.2.2.2.1 ∧ μ.2.2.2.2.2.2.2.2.1 ≤ 30 ∧ μ.2.2.2.2.2.2.2.2.2.1 1651 = nI n ∧ n + μ.2.2.2.2.2.2.2.1 ≤ 2 * μ.2.2.2.2.2.2.2.2.1
/-- the model failed as the system did -/
def yFa (ρ : yR) (μ : yM11) : Prop := μ.1 = false ∧ ρ.2.2.2.2.2.1 = μ.2.2.2.2.2.2.1 ∧ ρ.2.2.2.2.2.2 = μ.2.2.2.2.2.1 ∧ 0 < μ.2.2.2.2.2.2.1
theorem pYs_n {ρ : yR} {μ : yM11} (h : pYs tape zs ρ μ n) : (μ.2.2.2.2.2.2.2.2.2.1 1651).toNatClampNeg = n := by
  obtain ⟨-, -, -, -, h5, h6, h7⟩ := h
  rw [h6, nI_clamp (by omega)]
theorem fails_ya {ρ : yR} {kind : Int32} (h1 : ¬ tk = 1) (hk : pTk tape zs (ρ.1, ρ.2.1, ρ.2.2.1, ρ.2.2.2.1) (tk, fr, en, val)) (hp : 0 < kind) : (yBa ρ kind).2.2.2.2.2.1 = (mf_fails tk fr fp 0 kind).2.2 ∧ (yBa ρ kind).2.2.2.2.2.2 = (mf_fails tk fr fp 0 kind).2.1 ∧ 0 < (mf_fails tk fr fp 0 kind).2.2 ∧ (mf_fails tk fr fp 0 kind).1 = false := by
  rw [fails_k h1]
  exact ⟨rfl, congrArg nI hk.1, hp, rfl⟩
/-- the end of a step: x's close, the model's sign -/
theorem fin_eq {β : Type} {ρ : yR} {t8 : yM8} {e0 dq cq m : Nat} {oq : Nat → Int32} (t : β) (h : pTx tape text zs) (h9 : zs ≤ 900) (hk : pTk tape zs (ρ.1, ρ.2.1, ρ.2.2.1, ρ.2.2.2.1) (t8.2.1, t8.2.2.1, t8.2.2.2.1, t8.2.2.2.2.1)) (hf : t8.2.2.2.2.2.2.1 = 0) (hst : ρ.2.2.2.2.1 = cq) (hc : cq ≤ 30) (hm : t8.2.2.2.2.2.2.2 1651 = nI m) (hb : m + dq ≤ 2 * cq) (μ' : yM11) (hμ : (fun t_21 : Bool × Int32 × Nat × Nat × Int32 × Int32 × Int32 => ((t_21.1, t_21.2.1, t_21.2.2.1, t_21.2.2.2.1, t_21.2.2.2.2.1, t_21.2.2.2.2.2.1, t_21.2.2.2.2.2.2, dq, cq, t8.2.2.2.2.2.2.2, oq) : yM11)) (mf_wantSign zs t8.2.1 t8.2.2.1 t8.2.2.2.1 t8.2.2.2.2.1 t8.2.2.2.2.2.1 t8.2.2.2.2.2.2.1 text 59) = μ') : (∃ ρ', yCl (yX zs Wd R nr nc tape trn) ρ = (true, ρ') ∧ pYs tape zs ρ' μ' m ∧ (t8.2.2.2.1 ≤ μ'.2.2.1 ∧ t8.2.2.1 < t8.2.2.2.1) ∧ μ'.2.2.2.2.2.2.2.1 = dq ∧ μ'.2.2.2.2.2.2.2.2.2.1 = t8.2.2.2.2.2.2.2 ∧ μ'.2.2.2.2.2.2.2.2.2.2 = oq) ∨ (∃ ρ', yCl (yX zs Wd R nr nc tape trn) ρ = (false, ρ') ∧ yFa ρ' μ') := by
  have eX : yCl (yX zs Wd R nr nc tape trn) ρ = (fun t : Bool × Nat × Nat × Int32 × Int32 × Int32 × Int32 => (t.1, ((t.2.1, t.2.2.1, t.2.2.2.1, t.2.2.2.2.1, ρ.2.2.2.2.1, t.2.2.2.2.2.1, t.2.2.2.2.2.2) : yR))) (rf_close zs ρ.1 ρ.2.1 ρ.2.2.1 ρ.2.2.2.1 tape ρ.2.2.2.2.2.1 ρ.2.2.2.2.2.2) := rfl
  rw [eX]
  have cl := close_eq (bk := ρ.2.2.2.2.2.1) (bp := ρ.2.2.2.2.2.2) (fp := t8.2.2.2.2.2.1) h h9 hk
  have hlt := sign_lt (fp := t8.2.2.2.2.2.1) (fl := 0) (text := text) (ch := 59) hk
  rw [hf] at hμ
  generalize rf_close zs ρ.1 ρ.2.1 ρ.2.2.1 ρ.2.2.2.1 tape ρ.2.2.2.2.2.1 ρ.2.2.2.2.2.2 = g at cl ⊢
  generalize mf_wantSign zs t8.2.1 t8.2.2.1 t8.2.2.2.1 t8.2.2.2.2.1 t8.2.2.2.2.2.1 0 text 59 = w at cl hμ hlt
  obtain ⟨p1, p2, p3⟩ := cl
  obtain ⟨go, g2, g3, g4, g5, g6, g7⟩ := g
  obtain ⟨wo, w2, w3, w4, w5, w6, w7⟩ := w
  dsimp only at p1 p2 p3 hμ hlt ⊢
  subst p1 hμ
  cases go with
  | false =>
    obtain ⟨u1, u2, u3⟩ := p3 rfl
    exact Or.inr ⟨_, rfl, rfl, u1, u2, u3⟩
  | true =>
    obtain ⟨u1, u2, u3⟩ := p2 rfl
    exact Or.inl ⟨_, rfl, ⟨rfl, u1, u2, hst, hc, hm, hb⟩, ⟨u3, hlt rfl⟩, rfl, rfl, rfl⟩
/-- a plain act with the sign behind it -/
theorem act_eq {β : Type} (mkA : Int32 × Nat → β) {ρ : yR} {μ : yM11} {i : Nat} (h : pTx tape text zs) (h9 : zs ≤ 900) (hW0 : 1 ≤ Wd) (hW : Wd ≤ 5) (hR0 : 1 ≤ R) (hR : R ≤ 6) (h4 : nr ≤ 4) (hnm : ∀ k, k < nr → pNm (trn k) (names k)) (hs : pYs tape zs ρ μ n) (hi : i < 7) (ha : rf_acts ρ.1 ρ.2.1 ρ.2.2.1 tape = nI i) (hv : mf_inWords zs μ.2.1 μ.2.2.1 μ.2.2.2.1 text = nI (xWo i)) (hct : ¬ μ.2.2.2.2.2.2.2.2.1 = 30) : (∃ (ρ' : yR) (t : Int32 × Nat), zlet (zlet (yPl (yX zs Wd R nr nc tape trn) (yS1 ρ)) (fun r => (r.1, r.2.map mkA))) (fun r => zoc r.2 (r.1, none) (fun t => zlet (yCl (yX zs Wd R nr nc tape trn) r.1) (fun c => (c.2, if c.1 = true then some t else none)))) = (ρ', some (mkA t)) ∧ pYs tape zs ρ' (yMs zs text names Wd R nr μ) (n + 1) ∧ μ.2.2.2.1 < (yMs zs text names Wd R nr μ).2.2.1 ∧ (yMs zs text names Wd R nr μ).2.2.2.2.2.2.2.1 = μ.2.2.2.2.2.2.2.1 ∧ (yMs zs text names Wd R nr μ).2.2.2.2.2.2.2.2.2.2 = μ.2.2.2.2.2.2.2.2.2.2 ∧ (∀ k, k < 1684 + 6 * n → ¬ k = 1651 → (yMs zs text names Wd R nr μ).2.2.2.2.2.2.2.2.2.1 k = μ.2.2.2.2.2.2.2.2.2.1 k) ∧ yRow (fun j => (yMs zs text names Wd R nr μ).2.2.2.2.2.2.2.2.2.1 (1640 + j)) Wd R nr n t) ∨ (∃ ρ', zlet (zlet (yPl (yX zs Wd R nr nc tape trn) (yS1 ρ)) (fun r => (r.1, r.2.map mkA))) (fun r => zoc r.2 (r.1, none) (fun t => zlet (yCl (yX zs Wd R nr nc tape trn) r.1) (fun c => (c.2, if c.1 = true then some t else none)))) = (ρ', none) ∧ yFa ρ' (yMs zs text names Wd R nr μ)) := by
  have hn := pYs_n hs
  obtain ⟨mo, tk, fr, en, val, fp, fl, dp, ct, a, op⟩ := μ
  obtain ⟨r1, r2, r3, r4, r5, r6, r7⟩ := hs
  dsimp only at r1 r2 r3 r4 r5 r6 r7 hn hv hct
  subst r1 r3
  have hvr : ∀ j, j < 7 → ¬ nI (xWo j) = 15 ∧ ¬ nI (xWo j) = 16 ∧ ¬ nI (xWo j) < 9 ∧ ¬ 18 < nI (xWo j) ∧ ¬ nI (xWo j) = 17 := by decide
  obtain ⟨v15, v16, v9, v18, v17⟩ := hvr i hi
  have eM : yMs zs text names Wd R nr (true, tk, fr, en, val, fp, 0, dp, ct, a, op) = _ := ys_act (Wd := Wd) (R := R) (nr := nr) (names := names) (val := val) (fp := fp) (fl := 0) (dp := dp) (op := op) hv v15 v16 v9 v18 v17 hct hn
  rw [eM]
  clear eM
  have eX : yPl (yX zs Wd R nr nc tape trn) (yS1 ρ) = (fun t : Bool × Nat × Nat × Int32 × Int32 × Int32 × Int32 × Int32 × Int32 => (((t.2.1, t.2.2.1, t.2.2.2.1, t.2.2.2.2.1, ρ.2.2.2.2.1 + 1, t.2.2.2.2.2.1, t.2.2.2.2.2.2.1) : yR), if t.1 = true then some (t.2.2.2.2.2.2.2.1, (t.2.2.2.2.2.2.2.2).toNatClampNeg) else none)) (rf_plain zs ρ.1 ρ.2.1 ρ.2.2.1 ρ.2.2.2.1 tape ρ.2.2.2.2.2.1 ρ.2.2.2.2.2.2 Wd R nr trn) := rfl
  rw [eX]
  clear eX
  have hpl := plain_eq (bk := ρ.2.2.2.2.2.1) (bp := ρ.2.2.2.2.2.2) (fp := fp) (at_ := at7 a n (nI (xWo i))) (n := n) h h9 r2 hW0 hW hR0 hR h4 hnm hi ha at7_r _ rfl _ rfl
  generalize rf_plain zs ρ.1 ρ.2.1 ρ.2.2.1 ρ.2.2.2.1 tape ρ.2.2.2.2.2.1 ρ.2.2.2.2.2.2 Wd R nr trn = x at hpl ⊢
  generalize mf_yearOrder zs (mf_onward zs en text).1 (mf_onward zs en text).2.1 (mf_onward zs en text).2.2.1 (mf_onward zs en text).2.2.2 fp 0 (at7 a n (nI (xWo i))) names text Wd R nr (nI (xWo i)) (1684 + 6 * n) = t8 at hpl ⊢
  obtain ⟨⟨p1, p2, p3⟩, f1, p4⟩ := hpl
  obtain ⟨x1, x2, x3, x4, x5, x6, x7, x8, x9⟩ := x
  obtain ⟨y1, y2, y3, y4, y5, y6, y7, y8⟩ := t8
  dsimp only at p1 p2 p3 p4 f1 ⊢
  subst p1
  cases x1 with
  | false =>
    obtain ⟨u1, u2, u3⟩ := p3 rfl
    rw [if_neg (show ¬ false = true by decide), if_neg (show ¬ false = true by decide)]
    exact Or.inr ⟨_, rfl, rfl, u1, u2, u3⟩
  | true =>
    obtain ⟨u1, u2, u3⟩ := p2 rfl
    have hrow := p4 rfl
    have fa : ∀ k, k < 1684 + 6 * n → ¬ k = 1651 → y8 k = a k := fun k q1 q2 => (f1 k (by omega)).trans (at7_o q2 (by omega))
    have f51 : y8 1651 = nI (n + 1) := (f1 1651 (by omega)).trans at7_n
    rw [if_pos (show true = true from rfl), if_pos (show true = true from rfl)]
    rcases fin_eq (Wd := Wd) (R := R) (nr := nr) (nc := nc) (trn := trn) (ρ := (x2, x3, x4, x5, ρ.2.2.2.2.1 + 1, x6, x7)) (t8 := (true, y2, y3, y4, y5, y6, y7, y8)) (e0 := 0) (dq := dp) (cq := ct + 1) (m := n + 1) (oq := op) (x8, x9.toNatClampNeg) h h9 u1 u2 (by dsimp only; omega) (by omega) f51 (by omega) _ rfl with ⟨ρ', e1, e2, e3, e4, e5, e6⟩ | ⟨ρ', e1, e2⟩
    · refine Or.inl ⟨ρ', (x8, x9.toNatClampNeg), ?_, e2, ?_, rfl, rfl, fa, hrow⟩
      · show zlet (yCl (yX zs Wd R nr nc tape trn) (x2, x3, x4, x5, ρ.2.2.2.2.1 + 1, x6, x7)) (fun c => (c.2, if c.1 = true then some (mkA (x8, x9.toNatClampNeg)) else none)) = _
        rw [e1]
        rfl
      · dsimp only at u3 e3 ⊢
        omega
    · refine Or.inr ⟨ρ', ?_, e2⟩
      show zlet (yCl (yX zs Wd R nr nc tape trn) (x2, x3, x4, x5, ρ.2.2.2.2.1 + 1, x6, x7)) (fun c => (c.2, if c.1 = true then some (mkA (x8, x9.toNatClampNeg)) else none)) = _
      rw [e1]
      rfl
/-- a block's head row -/
def hdR (a : Nat → Int32) (Wd R n : Nat) : yHb → Prop
  | .inl m => a (44 + 6 * n) = 16 ∧ a (44 + 6 * n + 1) = nI m ∧ 1 ≤ m ∧ m ≤ 99
  | .inr w => yTst a Wd R n w
/-- a block's head with the sign behind it -/
theorem head_y {β : Type} (K : yHb → yR → yR × Option β) {ρ : yR} {μ : yM11} {w : Bool} (h : pTx tape text zs) (h9 : zs ≤ 900) (hW0 : 1 ≤ Wd) (hW : Wd ≤ 5) (hR0 : 1 ≤ R) (hR : R ≤ 6) (hs : pYs tape zs ρ μ n) (hv : mf_inWords zs μ.2.1 μ.2.2.1 μ.2.2.2.1 text = (if w = true then 15 else 16)) (hct : ¬ μ.2.2.2.2.2.2.2.2.1 = 30) (hdp : ¬ μ.2.2.2.2.2.2.2.1 = 3) : (∃ (ρ' : yR) (hb : yHb), zlet (yHd (yX zs Wd R nr nc tape trn) w (yNx (yX zs Wd R nr nc tape trn) (yS1 ρ))) (fun r => zoc r.2 (r.1, none) (fun h => zlet (yCl (yX zs Wd R nr nc tape trn) r.1) (fun c => if c.1 = true then K h c.2 else (c.2, none)))) = K hb ρ' ∧ pYs tape zs ρ' (yMs zs text names Wd R nr μ) (n + 1) ∧ μ.2.2.2.1 < (yMs zs text names Wd R nr μ).2.2.1 ∧ (yMs zs text names Wd R nr μ).2.2.2.2.2.2.2.1 = μ.2.2.2.2.2.2.2.1 + 1 ∧ (yMs zs text names Wd R nr μ).2.2.2.2.2.2.2.2.2.2 = upd μ.2.2.2.2.2.2.2.2.2.2 μ.2.2.2.2.2.2.2.1 (nI n) ∧ (∀ k, k < 1684 + 6 * n → ¬ k = 1651 → (yMs zs text names Wd R nr μ).2.2.2.2.2.2.2.2.2.1 k = μ.2.2.2.2.2.2.2.2.2.1 k) ∧ hdR (fun j => (yMs zs text names Wd R nr μ).2.2.2.2.2.2.2.2.2.1 (1640 + j)) Wd R n hb) ∨ (∃ ρ', zlet (yHd (yX zs Wd R nr nc tape trn) w (yNx (yX zs Wd R nr nc tape trn) (yS1 ρ))) (fun r => zoc r.2 (r.1, none) (fun h => zlet (yCl (yX zs Wd R nr nc tape trn) r.1) (fun c => if c.1 = true then K h c.2 else (c.2, none)))) = (ρ', none) ∧ yFa ρ' (yMs zs text names Wd R nr μ)) := by
  have hn := pYs_n hs
  obtain ⟨mo, tk, fr, en, val, fp, fl, dp, ct, a, op⟩ := μ
  obtain ⟨r1, r2, r3, r4, r5, r6, r7⟩ := hs
  dsimp only at r1 r2 r3 r4 r5 r6 r7 hn hv hct hdp
  subst r1 r3
  obtain ⟨v, hvv⟩ : ∃ v : Int32, v = (if w = true then 15 else 16) := ⟨_, rfl⟩
  rw [← hvv] at hv
  have v1 : v = 15 ∨ v = 16 := by
    rw [hvv]
    cases w
    · exact Or.inr rfl
    · exact Or.inl rfl
  have eM : yMs zs text names Wd R nr (true, tk, fr, en, val, fp, 0, dp, ct, a, op) = _ := ys_head (Wd := Wd) (R := R) (nr := nr) (names := names) (val := val) (fp := fp) (fl := 0) (op := op) hv v1 hct hdp hn
  rw [eM]
  clear eM
  obtain ⟨q1, q2⟩ := next_tk (num := ρ.2.2.2.1) h h9 r2.2.1 r2.2.2.2.1
  dsimp only at q1 q2
  have eN : yNx (yX zs Wd R nr nc tape trn) (yS1 ρ) = (fun t : Nat × Nat × Int32 × Int32 => ((t.1, t.2.1, t.2.2.1, t.2.2.2, ρ.2.2.2.2.1 + 1, ρ.2.2.2.2.2.1, ρ.2.2.2.2.2.2) : yR)) (rf_next zs ρ.2.1 ρ.2.2.2.1 tape) := rfl
  rw [eN]
  clear eN
  generalize rf_next zs ρ.2.1 ρ.2.2.2.1 tape = t at q1 ⊢
  generalize mf_onward zs en text = u at q1 q2 ⊢
  obtain ⟨t1, t2, t3, t4⟩ := t
  obtain ⟨u1, u2, u3, u4⟩ := u
  have o1 := q1.2.2.1
  dsimp only at q2 o1 ⊢
  have a0 := at7_r (a := a) (n := n) (v := v)
  have key : ∀ (t8 : yM8) (X : yR × Option yHb), yHd (yX zs Wd R nr nc tape trn) w (t1, t2, t3, t4, ρ.2.2.2.2.1 + 1, ρ.2.2.2.2.2.1, ρ.2.2.2.2.2.2) = X → mf_yearOrder zs u1 u2 u3 u4 fp 0 (at7 a n v) names text Wd R nr v (1684 + 6 * n) = t8 → (∀ k, ¬ (1684 + 6 * n ≤ k ∧ k < 1690 + 6 * n) → t8.2.2.2.2.2.2.2 k = at7 a n v k) → (∃ hb, X.2 = some hb ∧ t8.1 = true ∧ X.1.2.2.2.2.1 = ρ.2.2.2.2.1 + 1 ∧ pTk tape zs (X.1.1, X.1.2.1, X.1.2.2.1, X.1.2.2.2.1) (t8.2.1, t8.2.2.1, t8.2.2.2.1, t8.2.2.2.2.1) ∧ t8.2.2.2.2.2.2.1 = 0 ∧ u3 ≤ t8.2.2.1 ∧ hdR (fun j => t8.2.2.2.2.2.2.2 (1640 + j)) Wd R n hb) ∨ (X.2 = none ∧ t8.1 = false ∧ X.1.2.2.2.2.2.1 = t8.2.2.2.2.2.2.1 ∧ X.1.2.2.2.2.2.2 = t8.2.2.2.2.2.1 ∧ 0 < t8.2.2.2.2.2.2.1) := by
    intro t8 X hX h8 hfr
    cases w with
    | true =>
      have hv5 : v = 15 := hvv
      subst hv5
      unfold mf_yearOrder at h8
      rw [if_neg (show ¬ (15 : Int32) = 9 by decide), if_neg (show ¬ (15 : Int32) = 10 by decide), if_neg (show ¬ (15 : Int32) = 11 by decide), if_neg (show ¬ (15 : Int32) = 12 by decide), if_neg (show ¬ (15 : Int32) = 13 by decide), if_neg (show ¬ (15 : Int32) = 14 by decide), if_pos (show (15 : Int32) = 15 from rfl)] at h8
      change mf_test zs u1 u2 u3 u4 fp 0 (at7 a n 15) text Wd R (1684 + 6 * n) = t8 at h8
      have ht := test_eq (bk := ρ.2.2.2.2.2.1) (bp := ρ.2.2.2.2.2.2) (fp := fp) (at_ := at7 a n 15) (n := n) h h9 q1 hW0 hW hR0 hR _ rfl _ h8
      have hX2 : (fun t : Bool × Nat × Nat × Int32 × Int32 × Int32 × Int32 × Int32 × Int32 => ((((t.2.1, t.2.2.1, t.2.2.2.1, t.2.2.2.2.1, ρ.2.2.2.2.1 + 1, t.2.2.2.2.2.1, t.2.2.2.2.2.2.1) : yR), (if t.1 = true then some (rf_tests t1 t2 t3 tape, t.2.2.2.2.2.2.2.1, t.2.2.2.2.2.2.2.2) else none).map Sum.inr) : yR × Option yHb)) (rf_when zs t1 t2 t3 t4 tape ρ.2.2.2.2.2.1 ρ.2.2.2.2.2.2 Wd R) = X := by
        rw [← hX]
        unfold yHd
        rw [if_pos (show true = true from rfl)]
        rfl
      generalize rf_when zs t1 t2 t3 t4 tape ρ.2.2.2.2.2.1 ρ.2.2.2.2.2.2 Wd R = x at ht hX2
      obtain ⟨⟨p1, p2, p3⟩, f1, p4⟩ := ht
      obtain ⟨x1, x2, x3, x4, x5, x6, x7, x8, x9⟩ := x
      dsimp only at p1 p2 p3 p4 hX2
      subst hX2
      cases x1 with
      | false =>
        obtain ⟨g1, g2, g3⟩ := p3 p1.symm
        exact Or.inr ⟨rfl, p1.symm, g1, g2, g3⟩
      | true =>
        obtain ⟨g1, g2, g3⟩ := p2 p1.symm
        exact Or.inl ⟨Sum.inr (rf_tests t1 t2 t3 tape, x8, x9), rfl, p1.symm, rfl, g1, g2, g3, p4 p1.symm⟩
    | false =>
      have hv6 : v = 16 := hvv
      subst hv6
      unfold mf_yearOrder at h8
      rw [if_neg (show ¬ (16 : Int32) = 9 by decide), if_neg (show ¬ (16 : Int32) = 10 by decide), if_neg (show ¬ (16 : Int32) = 11 by decide), if_neg (show ¬ (16 : Int32) = 12 by decide), if_neg (show ¬ (16 : Int32) = 13 by decide), if_neg (show ¬ (16 : Int32) = 14 by decide), if_neg (show ¬ (16 : Int32) = 15 by decide), if_pos (show (16 : Int32) = 16 from rfl)] at h8
      change mf_number zs u1 u2 u3 u4 fp 0 (at7 a n 16) text (1684 + 6 * n + 1) 1 99 = t8 at h8
      have hu := number_eq (bk := ρ.2.2.2.2.2.1) (bp := ρ.2.2.2.2.2.2) (fp := fp) (at_ := at7 a n 16) (to := 1684 + 6 * n + 1) (lo := 1) (hi := 99) h h9 q1
      rw [h8] at hu
      have hX2 : (fun t : Bool × Int32 × Nat × Nat × Int32 × Int32 × Int32 × Int32 => ((((t.2.2.1, t.2.2.2.1, t.2.2.2.2.1, t.2.2.2.2.2.1, ρ.2.2.2.2.1 + 1, t.2.2.2.2.2.2.1, t.2.2.2.2.2.2.2) : yR), (if t.1 = true then some (t.2.1.toNatClampNeg) else none).map Sum.inl) : yR × Option yHb)) (rf_number zs t1 t2 t3 t4 tape ρ.2.2.2.2.2.1 ρ.2.2.2.2.2.2 1 99) = X := by
        rw [← hX]
        unfold yHd
        rw [if_neg (show ¬ false = true by decide)]
        rfl
      generalize rf_number zs t1 t2 t3 t4 tape ρ.2.2.2.2.2.1 ρ.2.2.2.2.2.2 1 99 = x at hu hX2
      obtain ⟨⟨p1, p2, p3⟩, p4⟩ := hu
      obtain ⟨x1, xV, x2, x3, x4, x5, x6, x7⟩ := x
      dsimp only at p1 p2 p3 p4 hX2
      subst hX2
      cases x1 with
      | false =>
        obtain ⟨g1, g2, g3⟩ := p3 p1.symm
        exact Or.inr ⟨rfl, p1.symm, g1, g2, g3⟩
      | true =>
        obtain ⟨g1, g2, g3⟩ := p2 p1.symm
        obtain ⟨m, m1, m2, m3, m4, m5⟩ := p4 p1.symm
        refine Or.inl ⟨Sum.inl xV.toNatClampNeg, rfl, p1.symm, rfl, g1, g2, g3, ?_⟩
        have em : xV.toNatClampNeg = m := by rw [m2, nI_clamp (by omega)]
        rw [em]
        refine ⟨?_, ?_, ?_, ?_⟩
        · dsimp only; rw [show 1640 + (44 + 6 * n) = 1684 + 6 * n by omega, m3, pk_un (by omega)]; exact a0
        · dsimp only; rw [show 1640 + (44 + 6 * n + 1) = 1684 + 6 * n + 1 by omega, m3, pk_us]
        · exact ge_nI (a := 1) (by omega) m4
        · exact le_nI (a := 99) (by omega) m5
  obtain ⟨t8, ht8⟩ : ∃ t8, mf_yearOrder zs u1 u2 u3 u4 fp 0 (at7 a n v) names text Wd R nr v (1684 + 6 * n) = t8 := ⟨_, rfl⟩
  obtain ⟨X, hX⟩ : ∃ X, yHd (yX zs Wd R nr nc tape trn) w (t1, t2, t3, t4, ρ.2.2.2.2.1 + 1, ρ.2.2.2.2.2.1, ρ.2.2.2.2.2.2) = X := ⟨_, rfl⟩
  have hfr : ∀ k, ¬ (1684 + 6 * n ≤ k ∧ k < 1690 + 6 * n) → t8.2.2.2.2.2.2.2 k = at7 a n v k := by
    intro k hk
    rw [← ht8]
    unfold mf_yearOrder zlet
    rcases v1 with rfl | rfl
    · rw [if_neg (show ¬ (15 : Int32) = 9 by decide), if_neg (show ¬ (15 : Int32) = 10 by decide), if_neg (show ¬ (15 : Int32) = 11 by decide), if_neg (show ¬ (15 : Int32) = 12 by decide), if_neg (show ¬ (15 : Int32) = 13 by decide), if_neg (show ¬ (15 : Int32) = 14 by decide), if_pos (show (15 : Int32) = 15 from rfl)]
      exact (test_eq (bk := ρ.2.2.2.2.2.1) (bp := ρ.2.2.2.2.2.2) (fp := fp) (at_ := at7 a n 15) (n := n) h h9 q1 hW0 hW hR0 hR _ rfl _ rfl).2.1 k hk
    · rw [if_neg (show ¬ (16 : Int32) = 9 by decide), if_neg (show ¬ (16 : Int32) = 10 by decide), if_neg (show ¬ (16 : Int32) = 11 by decide), if_neg (show ¬ (16 : Int32) = 12 by decide), if_neg (show ¬ (16 : Int32) = 13 by decide), if_neg (show ¬ (16 : Int32) = 14 by decide), if_neg (show ¬ (16 : Int32) = 15 by decide), if_pos (show (16 : Int32) = 16 from rfl)]
      exact nu_lo (by omega)
  have hkey := key t8 X hX ht8 hfr
  rw [ht8, hX]
  rcases hkey with ⟨hb, k1, k2, k3, k4, k5, k6, k7⟩ | ⟨k1, k2, k3, k4, k5⟩
  · rw [if_pos k2]
    have fa : ∀ k, k < 1684 + 6 * n → ¬ k = 1651 → t8.2.2.2.2.2.2.2 k = a k := fun k q1 q2 => (hfr k (by omega)).trans (at7_o q2 (by omega))
    have f51 : t8.2.2.2.2.2.2.2 1651 = nI (n + 1) := (hfr 1651 (by omega)).trans at7_n
    rcases fin_eq (Wd := Wd) (R := R) (nr := nr) (nc := nc) (trn := trn) (ρ := X.1) (t8 := t8) (e0 := 0) (dq := dp + 1) (cq := ct + 1) (m := n + 1) (oq := upd op dp (nI n)) () h h9 k4 k5 (by omega) (by omega) f51 (by omega) _ rfl with ⟨ρ', e1, e2, e3, e4, e5, e6⟩ | ⟨ρ', e1, e2⟩
    · refine Or.inl ⟨ρ', hb, ?_, e2, ?_, rfl, rfl, fa, k7⟩
      · show zoc X.2 (X.1, none) (fun h => zlet (yCl (yX zs Wd R nr nc tape trn) X.1) (fun c => if c.1 = true then K h c.2 else (c.2, none))) = _
        rw [zoc_s k1, e1]
        rfl
      · dsimp only at e3 ⊢
        omega
    · refine Or.inr ⟨ρ', ?_, e2⟩
      show zoc X.2 (X.1, none) (fun h => zlet (yCl (yX zs Wd R nr nc tape trn) X.1) (fun c => if c.1 = true then K h c.2 else (c.2, none))) = _
      rw [zoc_s k1, e1]
      rfl
  · rw [if_neg (show ¬ t8.1 = true by rw [k2]; decide)]
    refine Or.inr ⟨X.1, ?_, rfl, k3, k4, k5⟩
    show zoc X.2 (X.1, none) (fun h => zlet (yCl (yX zs Wd R nr nc tape trn) X.1) (fun c => if c.1 = true then K h c.2 else (c.2, none))) = _
    rw [zoc_n k1]
/-- an end with the sign behind it -/
theorem close_y {β : Type} (t : β) {ρ : yR} {μ : yM11} {q : Nat} (h : pTx tape text zs) (h9 : zs ≤ 900) (hs : pYs tape zs ρ μ n) (hv : mf_inWords zs μ.2.1 μ.2.2.1 μ.2.2.2.1 text = 17) (hdp : μ.2.2.2.2.2.2.2.1 = q + 1) : (∃ ρ' : yR, zlet (yCl (yX zs Wd R nr nc tape trn) (yNx (yX zs Wd R nr nc tape trn) ρ)) (fun c => (c.2, if c.1 = true then some t else none)) = (ρ', some t) ∧ pYs tape zs ρ' (yMs zs text names Wd R nr μ) (n + 1) ∧ μ.2.2.2.1 < (yMs zs text names Wd R nr μ).2.2.1 ∧ (yMs zs text names Wd R nr μ).2.2.2.2.2.2.2.1 = q ∧ (yMs zs text names Wd R nr μ).2.2.2.2.2.2.2.2.2.2 = μ.2.2.2.2.2.2.2.2.2.2 ∧ (yMs zs text names Wd R nr μ).2.2.2.2.2.2.2.2.2.1 = upd (upd (at7 μ.2.2.2.2.2.2.2.2.2.1 n 17) (1684 + (6 * n) + 4) (μ.2.2.2.2.2.2.2.2.2.2 q)) ((1684 + (6 * ((μ.2.2.2.2.2.2.2.2.2.2 q).toNatClampNeg))) + 4) (nI n)) ∨ (∃ ρ', zlet (yCl (yX zs Wd R nr nc tape trn) (yNx (yX zs Wd R nr nc tape trn) ρ)) (fun c => (c.2, if c.1 = true then some t else none)) = (ρ', none) ∧ yFa ρ' (yMs zs text names Wd R nr μ)) := by
  have hn := pYs_n hs
  obtain ⟨mo, tk, fr, en, val, fp, fl, dp, ct, a, op⟩ := μ
  obtain ⟨r1, r2, r3, r4, r5, r6, r7⟩ := hs
  dsimp only at r1 r2 r3 r4 r5 r6 r7 hn hv hdp
  subst r1 r3 hdp
  have eM : yMs zs text names Wd R nr (true, tk, fr, en, val, fp, 0, q + 1, ct, a, op) = _ := ys_close (Wd := Wd) (R := R) (nr := nr) (names := names) (val := val) (fp := fp) (fl := 0) (ct := ct) (op := op) hv (show ¬ q + 1 = 0 by omega) hn
  rw [eM]
  clear eM
  obtain ⟨q1, q2⟩ := next_tk (num := ρ.2.2.2.1) h h9 r2.2.1 r2.2.2.2.1
  dsimp only at q1 q2
  have f51 : upd (upd (at7 a n 17) (1684 + (6 * n) + 4) (op (q + 1 - 1))) ((1684 + (6 * ((op (q + 1 - 1)).toNatClampNeg))) + 4) (nI n) 1651 = nI (n + 1) := by rw [pk_un (by omega), pk_un (by omega)]; exact at7_n
  rcases fin_eq (Wd := Wd) (R := R) (nr := nr) (nc := nc) (trn := trn) (ρ := yNx (yX zs Wd R nr nc tape trn) ρ) (t8 := (true, (mf_onward zs en text).1, (mf_onward zs en text).2.1, (mf_onward zs en text).2.2.1, (mf_onward zs en text).2.2.2, fp, 0, upd (upd (at7 a n 17) (1684 + (6 * n) + 4) (op (q + 1 - 1))) ((1684 + (6 * ((op (q + 1 - 1)).toNatClampNeg))) + 4) (nI n))) (e0 := 0) (dq := q) (cq := ct) (m := n + 1) (oq := op) () h h9 q1 rfl r4 r5 f51 (by omega) _ rfl with ⟨ρ', e1, e2, e3, e4, e5, e6⟩ | ⟨ρ', e1, e2⟩
  · refine Or.inl ⟨ρ', ?_, e2, ?_, rfl, rfl, rfl⟩
    · rw [e1]; rfl
    · dsimp only at e3 ⊢
      omega
  · exact Or.inr ⟨ρ', by rw [e1]; rfl, e2⟩
end R46
