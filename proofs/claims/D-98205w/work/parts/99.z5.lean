/-! r18: the system's ways; ancestors, stills -/
section R18
variable {a b th : Nat → Int32} {Wd R nr nc : Nat} {ulit umayor unight uoil : Int32} {uborn ustays useen : Nat → Int32} {thouses talways tnever : Int32} {tbeside tleast tmost : Nat → Int32} {tring : Bool} {target : Int32} {self : Bool}
/-- the system's tests are the model's -/
def xSame (a : Nat → Int32) (umayor : Int32) (uborn ustays : Nat → Int32) (Wd R : Nat) (thouses talways tnever : Int32) (tring : Bool) (target : Int32) (self : Bool) : Prop := ∀ y, y < R → (∀ row, xf_isPattern Wd thouses talways tnever (nI y) (nI row) = mFr a Wd row y) ∧ ∀ i j k : Nat, xf_fits6 umayor uborn ustays Wd thouses talways tnever tring (nI y) (nI i) (nI j) (nI k) target self = mGd a Wd self i j k y
theorem r_same (h : pH a Wd R nr ulit umayor unight uoil uborn ustays useen thouses talways tnever tbeside) (hj : a 9 = 1 ↔ tf_joins Wd tring = true) (hW5 : Wd ≤ 5) (hR6 : R ≤ 6) (hsub : talways &&& thouses = talways) (hst : thouses &&& (talways ||| tnever) = (talways ||| tnever)) (ht : self = false → target = ulit) : xSame a umayor uborn ustays Wd R thouses talways tnever tring target self := fun y hy => by
  have hyy : Wd * y + Wd ≤ 32 := by
    have h1 : Wd * (y + 1) ≤ 5 * 6 := Nat.mul_le_mul hW5 (by omega)
    rw [Nat.mul_add] at h1
    omega
  exact ⟨fun row => r_pat h hW5 hyy hsub hst, fun i j k => r_fits6 h hj hW5 hyy hsub ht⟩
theorem x80 {k1 k2 k3 : Nat} {s3 : Nat → Nat → Int64} (hS : xSame a umayor uborn ustays Wd R thouses talways tnever tring target self) (hN : zpw Wd ≤ 32) (hR6 : R ≤ 6) (hk : k1 + 1 < R) (h2 : k2 < zpw Wd) (hw : ∀ i j, i < zpw Wd → j < zpw Wd → s3 k1 (32 * i + j) = lN (mWy a Wd self k1 i j)) : ∀ n, n ≤ zpw Wd → zf (xf_fill_B80 umayor uborn ustays Wd thouses talways tnever tring target self (k1 + 1) k2 s3 k3) 0 n = lN (zf (fun i s => s + (if mGd a Wd self i k2 k3 k1 = true then mWy a Wd self k1 i k2 else 0)) 0 n)
  | 0, _ => rfl
  | n + 1, hn => by
    have ih := x80 (k3 := k3) hS hN hR6 hk h2 hw n (by omega)
    show xf_fill_B80 umayor uborn ustays Wd thouses talways tnever tring target self (k1 + 1) k2 s3 k3 n (zf _ 0 n) = lN (zf _ 0 n + _)
    rw [ih]
    have hl := wN_lt (F := mFr a Wd) (Gd := mGd a Wd self) (a := n) (b := k2) hN (show k1 < 6 by omega)
    unfold xf_fill_B80
    rw [Nat.add_sub_cancel, hw n k2 (by omega) h2, show (nI (k1 + 1)) - 1 = nI k1 from (by rw [show (1 : Int32) = nI 1 by decide, pk_sub (by omega), Nat.add_sub_cancel]), ((hS k1 (by omega)).2 n k2 k3)]
    by_cases c : 0 < lN (mWy a Wd self k1 n k2)
    · rw [if_pos c]
      by_cases d : mGd a Wd self n k2 k3 k1 = true
      · rw [if_pos d, if_pos d, lN_add]
      · rw [if_neg d, if_neg d, Nat.add_zero]
    · rw [if_neg c]
      have c0 : mWy a Wd self k1 n k2 = 0 := by
        have : ¬ 0 < mWy a Wd self k1 n k2 := fun q => c (by rw [show (0 : Int64) = lN 0 from rfl, lN_lt (by decide) hl]; exact q)
        omega
      rw [c0, show (if mGd a Wd self n k2 k3 k1 = true then 0 else 0) = 0 from (by split <;> rfl), Nat.add_zero]
theorem x37 {k1 k2 k3 : Nat} {s3 : Nat → Nat → Int64} (hS : xSame a umayor uborn ustays Wd R thouses talways tnever tring target self) (hN : zpw Wd ≤ 32) (hR6 : R ≤ 6) (hk : k1 < R) (h2 : k2 < zpw Wd) (hw : ∀ y, y < k1 → ∀ i j, i < zpw Wd → j < zpw Wd → s3 y (32 * i + j) = lN (mWy a Wd self y i j)) : xf_fill_B37 umayor uborn ustays Wd thouses talways tnever tring target self k1 k2 k3 s3 = zupR s3 k1 (vp_updL (s3 k1) (32 * k2 + k3) (lN (mWy a Wd self k1 k2 k3))) := by
  unfold xf_fill_B37 zlet xf_fill_L80
  dsimp only
  rw [(hS k1 hk).1 k3]
  by_cases c : mFr a Wd k3 k1 = true
  · rw [if_pos c]
    by_cases d : k1 = 0
    · subst d
      rw [if_pos rfl]
      by_cases e : k2 = 0
      · rw [if_pos e]
        have : mWy a Wd self 0 k2 k3 = 1 := by
          show (if k2 = 0 ∧ mFr a Wd k3 0 = true then 1 else 0) = 1
          rw [if_pos ⟨e, c⟩]
        rw [this]; rfl
      · rw [if_neg e]
        have : mWy a Wd self 0 k2 k3 = 0 := by
          show (if k2 = 0 ∧ mFr a Wd k3 0 = true then 1 else 0) = 0
          rw [if_neg (fun q => e q.1)]
        rw [this]; rfl
    · rw [if_neg d]
      obtain ⟨y, rfl⟩ : ∃ y, k1 = y + 1 := ⟨k1 - 1, by omega⟩
      rw [x80 (k3 := k3) hS hN hR6 hk h2 (hw y (by omega)) (zpw Wd) (Nat.le_refl _)]
      have : mWy a Wd self (y + 1) k2 k3 = zf (fun i s => s + (if mGd a Wd self i k2 k3 y = true then mWy a Wd self y i k2 else 0)) 0 (zpw Wd) := by
        show (if mFr a Wd k3 (y + 1) = true then _ else 0) = _
        rw [if_pos c]
      rw [this]
  · rw [if_neg c]
    have : mWy a Wd self k1 k2 k3 = 0 := by
      cases k1 with
      | zero =>
        show (if k2 = 0 ∧ mFr a Wd k3 0 = true then 1 else 0) = 0
        rw [if_neg (fun q => c q.2)]
      | succ y =>
        show (if mFr a Wd k3 (y + 1) = true then _ else 0) = 0
        rw [if_neg c]
    rw [this]; rfl
/-- what is filled in -/
def pX (a : Nat → Int32) (Wd : Nat) (self : Bool) (s : Nat → Nat → Int64) (k1 k2 k3 : Nat) : Prop := ∀ y i j, i < zpw Wd → j < zpw Wd → (y < k1 ∨ (y = k1 ∧ (i < k2 ∨ (i = k2 ∧ j < k3)))) → s y (32 * i + j) = lN (mWy a Wd self y i j)
theorem pX_e {s : Nat → Nat → Int64} {k1 k2 k3 l1 l2 l3 : Nat} (h : pX a Wd self s k1 k2 k3) (e : ∀ y i j, i < zpw Wd → j < zpw Wd → (y < l1 ∨ (y = l1 ∧ (i < l2 ∨ (i = l2 ∧ j < l3)))) → (y < k1 ∨ (y = k1 ∧ (i < k2 ∨ (i = k2 ∧ j < k3))))) : pX a Wd self s l1 l2 l3 := fun y i j hi hj q => h y i j hi hj (e y i j hi hj q)
theorem x37L {k1 k2 : Nat} {s : Nat → Nat → Int64} (hS : xSame a umayor uborn ustays Wd R thouses talways tnever tring target self) (hN : zpw Wd ≤ 32) (hR6 : R ≤ 6) (hk : k1 < R) (h2 : k2 < zpw Wd) (h : pX a Wd self s k1 k2 0) : ∀ n, n ≤ zpw Wd → pX a Wd self (zf (xf_fill_B37 umayor uborn ustays Wd thouses talways tnever tring target self k1 k2) s n) k1 k2 n
  | 0, _ => h
  | n + 1, hn => by
    have ih := x37L hS hN hR6 hk h2 h n (by omega)
    show pX a Wd self (xf_fill_B37 umayor uborn ustays Wd thouses talways tnever tring target self k1 k2 n (zf _ s n)) k1 k2 (n + 1)
    generalize zf (xf_fill_B37 umayor uborn ustays Wd thouses talways tnever tring target self k1 k2) s n = t at ih ⊢
    rw [x37 hS hN hR6 hk h2 (fun y hy i j hi hj => ih y i j hi hj (Or.inl hy))]
    intro y i j hi hj q
    unfold zupR
    by_cases c : y = k1
    · rw [if_pos c]
      by_cases d : 32 * i + j = 32 * k2 + n
      · have e1 : i = k2 := by omega
        have e2 : j = n := by omega
        subst e1; subst e2; subst c
        exact pk_uLs
      · rw [pk_uLn d, ← c]
        exact ih y i j hi hj (by omega)
    · rw [if_neg c]
      exact ih y i j hi hj (by omega)
theorem x28L {k1 : Nat} {s : Nat → Nat → Int64} (hS : xSame a umayor uborn ustays Wd R thouses talways tnever tring target self) (hN : zpw Wd ≤ 32) (hR6 : R ≤ 6) (hk : k1 < R) (h : pX a Wd self s k1 0 0) : ∀ n, n ≤ zpw Wd → pX a Wd self (zf (xf_fill_B28 umayor uborn ustays Wd thouses talways tnever tring target self k1) s n) k1 n 0
  | 0, _ => h
  | n + 1, hn => by
    have ih := x28L hS hN hR6 hk h n (by omega)
    exact pX_e (x37L hS hN hR6 hk (show n < zpw Wd by omega) ih (zpw Wd) (Nat.le_refl _)) (fun y i j _ hj q => by omega)
theorem x13L {s : Nat → Nat → Int64} (hS : xSame a umayor uborn ustays Wd R thouses talways tnever tring target self) (hN : zpw Wd ≤ 32) (hR6 : R ≤ 6) : ∀ n, n ≤ R → pX a Wd self (zf (xf_fill_B13 umayor uborn ustays Wd R thouses talways tnever tring target self) s n) n 0 0
  | 0, _ => fun y i j _ _ q => by omega
  | n + 1, hn => by
    have ih := x13L (s := s) hS hN hR6 n (by omega)
    exact pX_e (x28L hS hN hR6 (show n < R by omega) ih (zpw Wd) (Nat.le_refl _)) (fun y i j hi _ q => by omega)
theorem r_fill {xw : Nat → Nat → Int64} (hS : xSame a umayor uborn ustays Wd R thouses talways tnever tring target self) (hN : zpw Wd ≤ 32) (hR6 : R ≤ 6) : ∀ y i j, y < R → i < zpw Wd → j < zpw Wd → xf_fill xw umayor uborn ustays Wd R thouses talways tnever tring target self y (32 * i + j) = lN (mWy a Wd self y i j) := fun y i j hy hi hj =>
  x13L (s := xw) hS hN hR6 R (Nat.le_refl _) y i j hi hj (Or.inl hy)
theorem x42 {t : Nat → Nat → Int64} {i : Nat} {s : Nat} (hS : xSame a umayor uborn ustays Wd R thouses talways tnever tring target self) (hN : zpw Wd ≤ 32) (hR0 : 1 ≤ R) (hR6 : R ≤ 6) (hi : i < zpw Wd) (h : ∀ i j, i < zpw Wd → j < zpw Wd → t (R - 1) (32 * i + j) = lN (mWy a Wd self (R - 1) i j)) : ∀ n, n ≤ zpw Wd → zf (xf_sum_B42 umayor uborn ustays Wd R thouses talways tnever tring target self t i) (lN s) n = lN (s + zf (fun j s => s + (if mGd a Wd self i j 0 (R - 1) = true then mWy a Wd self (R - 1) i j else 0)) 0 n)
  | 0, _ => rfl
  | n + 1, hn => by
    have ih := x42 (s := s) hS hN hR0 hR6 hi h n (by omega)
    show xf_sum_B42 umayor uborn ustays Wd R thouses talways tnever tring target self t i n (zf _ (lN s) n) = lN (s + (zf _ 0 n + _))
    rw [ih]
    have hl := wN_lt (F := mFr a Wd) (Gd := mGd a Wd self) (a := i) (b := n) hN (show R - 1 < 6 by omega)
    unfold xf_sum_B42
    rw [h i n hi (by omega), show (0 : Int32) = nI 0 from rfl, (hS (R - 1) (by omega)).2 i n 0]
    by_cases c : 0 < lN (mWy a Wd self (R - 1) i n)
    · rw [if_pos c]
      by_cases d : mGd a Wd self i n 0 (R - 1) = true
      · rw [if_pos d, if_pos d, lN_add, Nat.add_assoc]
      · rw [if_neg d, if_neg d, Nat.add_zero]
    · rw [if_neg c]
      have c0 : mWy a Wd self (R - 1) i n = 0 := by
        have : ¬ 0 < mWy a Wd self (R - 1) i n := fun q => c (by rw [show (0 : Int64) = lN 0 from rfl, lN_lt (by decide) hl]; exact q)
        omega
      rw [c0, show (if mGd a Wd self i n 0 (R - 1) = true then 0 else 0) = 0 from (by split <;> rfl), Nat.add_zero]
theorem x33 {t : Nat → Nat → Int64} (hS : xSame a umayor uborn ustays Wd R thouses talways tnever tring target self) (hN : zpw Wd ≤ 32) (hR0 : 1 ≤ R) (hR6 : R ≤ 6) (h : ∀ i j, i < zpw Wd → j < zpw Wd → t (R - 1) (32 * i + j) = lN (mWy a Wd self (R - 1) i j)) : ∀ n, n ≤ zpw Wd → zf (xf_sum_B33 umayor uborn ustays Wd R thouses talways tnever tring target self t) 0 n = lN (zf (fun i s => s + zf (fun j s => s + (if mGd a Wd self i j 0 (R - 1) = true then mWy a Wd self (R - 1) i j else 0)) 0 (zpw Wd)) 0 n)
  | 0, _ => rfl
  | n + 1, hn => by
    have ih := x33 hS hN hR0 hR6 h n (by omega)
    show xf_sum_B33 umayor uborn ustays Wd R thouses talways tnever tring target self t n (zf _ 0 n) = lN (zf _ 0 n + _)
    rw [ih]
    exact x42 hS hN hR0 hR6 (show n < zpw Wd by omega) h (zpw Wd) (Nat.le_refl _)
theorem r_sum {xw : Nat → Nat → Int64} (hS : xSame a umayor uborn ustays Wd R thouses talways tnever tring target self) (hN : zpw Wd ≤ 32) (hR0 : 1 ≤ R) (hR6 : R ≤ 6) : (xf_sum xw umayor uborn ustays Wd R thouses talways tnever tring target self).1 = lN (mTot a Wd R self) := by
  have k := r_fill (xw := xw) hS hN hR6
  unfold xf_sum zlet xf_sum_L33
  dsimp only
  exact x33 hS hN hR0 hR6 (fun i j hi hj => k (R - 1) i j (by omega) hi hj) (zpw Wd) (Nat.le_refl _)
theorem rr_ancestors {xw : Nat → Nat → Int64} {ways further : Nat → Int64} {cb : Nat → Int32} (h : pH a Wd R nr ulit umayor unight uoil uborn ustays useen thouses talways tnever tbeside) (hj : a 9 = 1 ↔ tf_joins Wd tring = true) (hW5 : Wd ≤ 5) (hR0 : 1 ≤ R) (hR6 : R ≤ 6) (hsub : talways &&& thouses = talways) (hst : thouses &&& (talways ||| tnever) = (talways ||| tnever)) : (xf_ancestors xw ulit umayor uborn ustays Wd R thouses talways tnever tring).1 = (mf_ancestors a ways further cb Wd R).1 ∧ (xf_ancestors xw ulit umayor uborn ustays Wd R thouses talways tnever tring).2.2 = (mf_ancestors a ways further cb Wd R).2.1 := by
  have hS := r_same (self := false) (target := ulit) h hj hW5 hR6 hsub hst (fun _ => rfl)
  unfold xf_ancestors mf_ancestors zlet
  exact ⟨(r_sum hS (zpw_le Wd (by omega)) hR0 hR6).trans (r_reckons (zpw_1 Wd (by omega)) (zpw_le Wd (by omega)) hR0 hR6).1.symm, rfl⟩
theorem rr_stills {xw : Nat → Nat → Int64} {ways further : Nat → Int64} {cb : Nat → Int32} (h : pH a Wd R nr ulit umayor unight uoil uborn ustays useen thouses talways tnever tbeside) (hj : a 9 = 1 ↔ tf_joins Wd tring = true) (hW5 : Wd ≤ 5) (hR0 : 1 ≤ R) (hR6 : R ≤ 6) (hsub : talways &&& thouses = talways) (hst : thouses &&& (talways ||| tnever) = (talways ||| tnever)) : (xf_stills xw umayor uborn ustays Wd R thouses talways tnever tring).1 = (mf_stills a ways further cb Wd R).1 ∧ (xf_stills xw umayor uborn ustays Wd R thouses talways tnever tring).2.2 = (mf_stills a ways further cb Wd R).2.1 := by
  have hS := r_same (self := true) (target := 0) h hj hW5 hR6 hsub hst (fun q => by cases q)
  unfold xf_stills mf_stills zlet
  exact ⟨(r_sum hS (zpw_le Wd (by omega)) hR0 hR6).trans (r_reckons (zpw_1 Wd (by omega)) (zpw_le Wd (by omega)) hR0 hR6).1.symm, rfl⟩
end R18
