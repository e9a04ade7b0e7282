/-! r54: a town and a year read, both objects -/
section R54
variable {tape tx : Nat → Int32} {tp zs fr en rz Wd R nr nc : Nat} {fk fa fp tk vl fl sn y bk bp dp ct : Int32} {a op bo sy se : Nat → Int32} {nm : Nat → Int64} {x : yP23} {trn : Nat → Int64}
abbrev yM15 : Type := Int32 × Int32 × Int32 × Nat × Int32 × Nat × Nat × Int32 × Int32 × Int32 × Int32 × Int32 × (Nat → Int32) × (Nat → Int64) × (Nat → Int32)
theorem ft {b : Bool} (h : ¬ b = true) : b = false := by
  cases b
  · rfl
  · exact absurd rfl h
theorem town_no (hno : ¬ (xf_opens tp fk fa y 900).1 = true) : xf_townNo tp fk fa y = (-1, tp, fk, fa, 1) ∧ mf_town (nI tp) zs tk fr en vl fk fp fl sn a nm tape tx y = (-1, 1, nI tp, zs, tk, fr, en, vl, fk, fp, fl, sn, a, nm, tx) := by
  obtain ⟨h1, h2⟩ := begin_no (most := 900) (zs := zs) (tk := tk) (fr := fr) (en := en) (val := vl) (fp := fp) (fl := fl) (seen := sn) (tape := tape) (text := tx) (ft hno)
  constructor
  · unfold xf_townNo
    rw [show xf_opens tp fk fa y 900 = (false, tp, fk, fa, 1) from h1]
    rfl
  · rw [mf_town_tl, h2]
    rfl
theorem year_no (hno : ¬ (xf_opens tp fk fa y 300).1 = true) : xf_yearNo tp fk fa y = (-1, tp, fk, fa, 1) ∧ mf_year (nI tp) zs tk fr en vl fk fp fl sn dp ct a nm tape tx op Wd R nr y = (-1, 1, nI tp, zs, tk, fr, en, vl, fk, fp, fl, sn, dp, ct, a, tx, op) := by
  obtain ⟨h1, h2⟩ := begin_no (most := 300) (zs := zs) (tk := tk) (fr := fr) (en := en) (val := vl) (fp := fp) (fl := fl) (seen := sn) (tape := tape) (text := tx) (ft hno)
  constructor
  · unfold xf_yearNo
    rw [show xf_opens tp fk fa y 300 = (false, tp, fk, fa, 1) from h1]
    rfl
  · unfold mf_year
    rw [h2]
    rfl
theorem town_l {t1 : Bool × Int32 × Nat × Int32 × Nat × Nat × Int32 × Int32 × Int32 × Int32 × (Nat → Int32)} (hb : mf_begins (nI tp) zs tk fr en vl fp fl sn tape tx y 900 = t1) (h1 : t1.1 = true) : mf_town (nI tp) zs tk fr en vl fk fp fl sn a nm tape tx y = (fun t_4 : Bool × Int32 × Nat × Nat × Int32 × Int32 × Int32 × (Nat → Int32) => zlet (mf_town_L29 t1 t_4 (t_4.1, t_4.2.1, t_4.2.2.1, t_4.2.2.2.1, t_4.2.2.2.2.1, t_4.2.2.2.2.2.1, t_4.2.2.2.2.2.2.1, t_4.2.2.2.2.2.2.2)) (fun t_5 => mTl nm t1 t_5)) (mf_first t1.2.2.1 t1.2.2.2.1 t1.2.2.2.2.1 t1.2.2.2.2.2.1 t1.2.2.2.2.2.2.1 t1.2.2.2.2.2.2.2.1 t1.2.2.2.2.2.2.2.2.1 (mf_plain a 1640) t1.2.2.2.2.2.2.2.2.2.2) := by
  rw [mf_town_tl, hb, zl t1, if_pos h1, zl (mf_plain a 1640), zl (mf_first _ _ _ _ _ _ _ _ _)]
theorem town_two (hB : pBt tape) (htp : tp ≤ 900) (hyes : (xf_opens tp fk fa y 900).1 = true) : ∃ (rz : Nat) (x : yP23), y = nI rz ∧ rz ≤ 900 ∧ xf_opens tp fk fa (nI rz) 900 = (true, 0, 0, -1, 0) ∧ rT0 rz (cf_Reader tape rz).1 (cf_Reader tape rz).2.1 (cf_Reader tape rz).2.2.1 (cf_Reader tape rz).2.2.2 tape bk bp = x ∧ ((x.1 = false ∧ pTB x (mf_town (nI tp) zs tk fr en vl fk fp fl sn a nm tape tx (nI rz)) a nm) ∨ (x.1 = true ∧ pTG x (mf_town (nI tp) zs tk fr en vl fk fp fl sn a nm tape tx (nI rz)) a nm)) := by
  obtain ⟨rz, text', e1, e2, e3, e4, e5, e6, e7⟩ := begin_yes (most := 900) (zs := zs) (tk := tk) (fr := fr) (en := en) (val := vl) (fp := fp) (fl := fl) (seen := sn) (text := tx) hB htp (Nat.le_refl _) hyes
  subst e1
  refine ⟨rz, _, rfl, e2, e5, rfl, ?_⟩
  have hm := town_l (fk := fk) (a := a) (nm := nm) e6 rfl
  dsimp only at hm
  exact town_run (sn := 0) (names := nm) (at_ := a) e4 e2 (ra := (cf_Reader tape rz).1) (rb := (cf_Reader tape rz).2.1) (sort := (cf_Reader tape rz).2.2.1) (num := (cf_Reader tape rz).2.2.2) (tk := (mf_onward rz 0 text').1) (fr := (mf_onward rz 0 text').2.1) (en := (mf_onward rz 0 text').2.2.1) (val := (mf_onward rz 0 text').2.2.2) e7 _ rfl _ hm.symm
theorem year_two (hB : pBt tape) (htp : tp ≤ 900) (hyes : (xf_opens tp fk fa y 300).1 = true) (hW0 : 1 ≤ Wd) (hW : Wd ≤ 5) (hR0 : 1 ≤ R) (hR : R ≤ 6) (h4 : nr ≤ 4) (hnm : ∀ k, k < nr → pNm (trn k) (nm k)) : ∃ (rz : Nat) (X : yR × Option (List (yT 3))), y = nI rz ∧ rz ≤ 300 ∧ xf_opens tp fk fa (nI rz) 300 = (true, 0, 0, -1, 0) ∧ yKi (fun ρ => decide (ρ.2.2.1 = 0)) (yStep (yX rz Wd R nr nc tape trn) 3) (rz - (cf_Reader tape rz).1 + 1) (((cf_Reader tape rz).1, (cf_Reader tape rz).2.1, (cf_Reader tape rz).2.2.1, (cf_Reader tape rz).2.2.2, 0, bk, bp) : yR) [] = X ∧ ((X.2 = none ∧ yrB X.1 (mf_year (nI tp) zs tk fr en vl fk fp fl sn dp ct a nm tape tx op Wd R nr (nI rz)) a) ∨ ∃ cs, X.2 = some cs ∧ yrG X.1 cs (mf_year (nI tp) zs tk fr en vl fk fp fl sn dp ct a nm tape tx op Wd R nr (nI rz)) a Wd R nr) := by
  obtain ⟨rz, text', e1, e2, e3, e4, e5, e6, e7⟩ := begin_yes (most := 300) (zs := zs) (tk := tk) (fr := fr) (en := en) (val := vl) (fp := fp) (fl := fl) (seen := sn) (text := tx) hB htp (by decide) hyes
  subst e1
  refine ⟨rz, _, rfl, e2, e5, rfl, ?_⟩
  exact year_read (tk := (mf_onward rz 0 text').1) (fr := (mf_onward rz 0 text').2.1) (en := (mf_onward rz 0 text').2.2.1) (val := (mf_onward rz 0 text').2.2.2) (names := nm) (at_ := a) (op := op) e4 (by omega) e7 hW0 hW hR0 hR h4 hnm 0 bk bp _ rfl _ (by unfold mf_year; rw [e6]; rfl)
theorem townBad_e (ho : xf_opens tp fk fa (nI rz) 900 = (true, 0, 0, -1, 0)) (hx : rT0 rz (cf_Reader tape rz).1 (cf_Reader tape rz).2.1 (cf_Reader tape rz).2.2.1 (cf_Reader tape rz).2.2.2 tape bk bp = x) : xf_townBad tp fk fa tape bk bp rz = (-1, 0, x.2.2.2.2.2.2.1, x.2.2.2.2.2.2.2.1, 9, x.2.2.2.2.2.2.1, x.2.2.2.2.2.2.2.1) := by
  subst hx
  unfold xf_townBad
  rw [ho]
  rfl
/-- the hill as a read town begins it -/
def hB9 (bo sy se : Nat → Int32) (x : yP23) : Int32 × Int32 × Int32 × Int32 × (Nat → Int32) × (Nat → Int32) × (Nat → Int32) := hf_beg bo sy se x.2.2.2.2.2.2.2.2.2.2.2.2.2.1 x.2.2.2.2.2.2.2.2.2.2.2.2.2.2.2.2.2.2.2.2.2.1 x.2.2.2.2.2.2.2.2.2.2.2.2.2.2.2.2.2.2.2.2.2.2 x.2.2.2.2.2.1
theorem townOk_e (ho : xf_opens tp fk fa (nI rz) 900 = (true, 0, 0, -1, 0)) (hx : rT0 rz (cf_Reader tape rz).1 (cf_Reader tape rz).2.1 (cf_Reader tape rz).2.2.1 (cf_Reader tape rz).2.2.2 tape bk bp = x) : xf_townOk tp fk fa tape bk bp bo sy se rz = (nI (zpc x.2.2.2.2.2.2.2.2.2.2.1), 0, 0, -1, 0, none, x.2.2.2.2.2.2.1, x.2.2.2.2.2.2.2.1, (hB9 bo sy se x).1, (hB9 bo sy se x).2.1, (hB9 bo sy se x).2.2.1, (hB9 bo sy se x).2.2.2.1, (hB9 bo sy se x).2.2.2.2.1, (hB9 bo sy se x).2.2.2.2.2.1, (hB9 bo sy se x).2.2.2.2.2.2, nI x.2.2.2.2.2.2.2.2.1, nI x.2.2.2.2.2.2.2.2.2.1, x.2.2.2.2.2.2.2.2.2.2.1, x.2.2.2.2.2.2.2.2.2.2.2.1, x.2.2.2.2.2.2.2.2.2.2.2.2.1, nI x.2.2.2.2.2.2.2.2.2.2.2.2.2.1, nI x.2.2.2.2.2.2.2.2.2.2.2.2.2.2.1, x.2.2.2.2.2.2.2.2.2.2.2.2.2.2.2.1, x.2.2.2.2.2.2.2.2.2.2.2.2.2.2.2.2.1, x.2.2.2.2.2.2.2.2.2.2.2.2.2.2.2.2.2.1, x.2.2.2.2.2.2.2.2.2.2.2.2.2.2.2.2.2.2.1, x.2.2.2.2.2.2.2.2.2.2.2.2.2.2.2.2.2.2.2.1, x.2.2.2.2.2.2.2.2.2.2.2.2.2.2.2.2.2.2.2.2.1, x.2.2.2.2.2.2.2.2.2.2.2.2.2.2.2.2.2.2.2.2.2.1, x.2.2.2.2.2.2.2.2.2.2.2.2.2.2.2.2.2.2.2.2.2.2, nI x.2.1, nI x.2.2.1, x.2.2.2.1, x.2.2.2.2.1, x.2.2.2.2.2.1) := by
  subst hx
  unfold xf_townOk
  rw [ho]
  rfl
def mkT (u : Nat → Nat) (x : yP23) : zTn := (u, (fun i => if i = 0 then x.2.2.2.2.2.2.2.2.1 else if i = 1 then x.2.2.2.2.2.2.2.2.2.1 else if i = 2 then x.2.2.2.2.2.2.2.2.2.2.2.2.2.1 else x.2.2.2.2.2.2.2.2.2.2.2.2.2.2.1), (fun i => if i = 0 then x.2.2.2.2.2.2.2.2.2.2.1 else if i = 1 then x.2.2.2.2.2.2.2.2.2.2.2.1 else x.2.2.2.2.2.2.2.2.2.2.2.2.1), x.2.2.2.2.2.2.2.2.2.2.2.2.2.2.2.1, (fun i => if i = 0 then x.2.2.2.2.2.2.2.2.2.2.2.2.2.2.2.2.1 else if i = 1 then x.2.2.2.2.2.2.2.2.2.2.2.2.2.2.2.2.2.1 else if i = 2 then x.2.2.2.2.2.2.2.2.2.2.2.2.2.2.2.2.2.2.1 else if i = 3 then x.2.2.2.2.2.2.2.2.2.2.2.2.2.2.2.2.2.2.2.2.2.1 else x.2.2.2.2.2.2.2.2.2.2.2.2.2.2.2.2.2.2.2.2.2.2), (fun i => if i = 0 then x.2.2.2.2.2.2.2.2.2.2.2.2.2.2.2.2.2.2.2.1 else x.2.2.2.2.2.2.2.2.2.2.2.2.2.2.2.2.2.2.2.2.1))
theorem z35 (s : Nat → Int32) : ∀ n k, k < n → zf hf_begin_B35 s n k = 0 := by
  intro n
  induction n with
  | zero => exact fun k h => absurd h (Nat.not_lt_zero _)
  | succ n ih =>
    intro k hk
    show upd (zf hf_begin_B35 s n) n 0 k = 0
    by_cases c : k = n
    · subst c; exact pk_us
    · rw [pk_un c]; exact ih k (by omega)
theorem hB9_e : (hB9 bo sy se x).1 = x.2.2.2.2.2.1 ∧ (hB9 bo sy se x).2.1 = (if x.2.2.2.2.2.2.2.2.2.2.2.2.2.1 = 0 then -1 else 0) ∧ (hB9 bo sy se x).2.2.1 = 0 ∧ (hB9 bo sy se x).2.2.2.1 = 0 ∧ (∀ k, k < 4 → (hB9 bo sy se x).2.2.2.2.1 k = x.2.2.2.2.2.2.2.2.2.2.2.2.2.2.2.2.2.2.2.2.2.1 k ∧ (hB9 bo sy se x).2.2.2.2.2.1 k = x.2.2.2.2.2.2.2.2.2.2.2.2.2.2.2.2.2.2.2.2.2.2 k) ∧ ∀ k, k < 10 → (hB9 bo sy se x).2.2.2.2.2.2 k = 0 := by
  unfold hB9 hf_beg hf_begin zlet
  dsimp only
  by_cases c : x.2.2.2.2.2.2.2.2.2.2.2.2.2.1 = 0
  · rw [if_pos c, if_pos c]
    exact ⟨rfl, rfl, rfl, rfl, fun k hk => ⟨cpy_at _ _ hk, cpy_at _ _ hk⟩, fun k hk => z35 se 10 k hk⟩
  · rw [if_neg c, if_neg c]
    exact ⟨rfl, rfl, rfl, rfl, fun k hk => ⟨cpy_at _ _ hk, cpy_at _ _ hk⟩, fun k hk => z35 se 10 k hk⟩
theorem town_sl {m : yM15} (u : Nat → Nat) (h : pTG x m a nm) : zSl m.2.2.2.2.2.2.2.2.2.2.2.2.1 m.2.2.2.2.2.2.2.2.2.2.2.2.2.1 (mkT u x) (hB9 bo sy se x).1 (hB9 bo sy se x).2.1 (hB9 bo sy se x).2.2.1 (hB9 bo sy se x).2.2.2.1 (hB9 bo sy se x).2.2.2.2.1 (hB9 bo sy se x).2.2.2.2.2.1 (hB9 bo sy se x).2.2.2.2.2.2 none := by
  obtain ⟨-, h1, h2, h3⟩ := h
  obtain ⟨b1, b2, b3, b4, b5, b6⟩ := hB9_e (bo := bo) (sy := sy) (se := se) (x := x)
  have h4 := h3 _ _ _ b5 b6
  rw [b1, b2, b3, b4]
  exact ⟨h1, h4, h2⟩
end R54
