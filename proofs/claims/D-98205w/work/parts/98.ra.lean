/-! r10: reads, mirror, company, lived, spoils, worst -/
section R10
variable {a b th : Nat → Int32} {Wd R nr nc : Nat} {ulit umayor unight uoil : Int32} {uborn ustays useen : Nat → Int32} {thouses talways tnever : Int32} {tbeside tleast tmost : Nat → Int32}
theorem rr_lived {hl : Bool} {xl tl : Nat → Int32} {what : Int32} (ht : ∀ k, k < 5 → xl k = tl k) : xf_lived hl xl what = mf_lived hl tl what := by
  have e1 : xf_isIn what.toInt64 0 4 = true ↔ (¬ what < 0 ∧ ¬ 4 < what) := r_in2 (x := what) (N := 4) (by decide)
  unfold xf_lived mf_lived
  by_cases d : what < 0
  · rw [if_pos d, if_neg (fun q => (e1.mp q).1 d)]
  · rw [if_neg d]
    by_cases e : what ≤ 4
    · rw [if_pos e, if_pos (e1.mpr ⟨d, Int32.not_lt.mpr e⟩)]
      have hk : what.toNatClampNeg ≤ 4 := z_le 4 (by decide) d (by rw [show nI 4 = 4 by decide]; exact e)
      rw [ht _ (by omega)]
    · rw [if_neg e, if_neg (fun q => (e1.mp q).2 (Int32.not_le.mp e))]
theorem rr_spoils {x y n : Int32} (h : pH a Wd R nr ulit umayor unight uoil uborn ustays useen thouses talways tnever tbeside) (hsub : thouses &&& (talways ||| tnever) = (talways ||| tnever)) (hW0 : 1 ≤ Wd) (hW5 : Wd ≤ 5) (hR0 : 1 ≤ R) (hR6 : R ≤ 6) : (xf_spoils ulit umayor uborn ustays Wd R thouses talways tnever tbeside x y n).1 = (mf_spoils a b Wd R x y n).1 ∧ (xf_spoils ulit umayor uborn ustays Wd R thouses talways tnever tbeside x y n).2 = (mf_spoils a b Wd R x y n).2.1 := by
  unfold xf_spoils mf_spoils zlet
  rw [r_in, r_wrongLamp h.1 hsub hW0 hW5 hR0 hR6]
  by_cases c : xf_isIn n.toInt64 0 30 = true
  · rw [if_pos c, if_pos c]
    by_cases d : xf_whyStuck Wd R thouses talways tnever x y ≤ 0
    · rw [if_pos d, if_pos d]
      obtain ⟨d0, -⟩ := whyStuck_0 d
      unfold mf_spoilsBy xf_spoilsOf zlet mf_bitOf
      dsimp only
      rw [h.2.1, r_after h, r_after h, d0]
      exact ⟨rfl, rfl⟩
    · rw [if_neg d, if_neg d]; exact ⟨rfl, rfl⟩
  · rw [if_neg c, if_neg c]; exact ⟨rfl, rfl⟩
theorem r_spoilsBy {k n : Nat} (b : Nat → Int32) (h : pH a Wd R nr ulit umayor unight uoil uborn ustays useen thouses talways tnever tbeside) : (mf_spoilsBy a b Wd R ((1 : Int32) <<< ((nI k) &&& 31)) n).1 = xf_spoilsOf ulit umayor uborn ustays Wd R thouses talways tnever tbeside (nI k) n := by
  unfold mf_spoilsBy xf_spoilsOf zlet
  dsimp only
  rw [h.2.1, r_after h, r_after h]
def pW (s : Int32 × Int32 × (Nat → Int32)) (t : Int32 × Int32) : Prop := s.1 = t.1 ∧ s.2.1 = t.2 ∧ (t.1 = -1 ∨ ¬ t.1 < 0) ∧ (t.2 = -1 ∨ ¬ t.2 < 0)
theorem rr_worst {n what : Int32} (h : pH a Wd R nr ulit umayor unight uoil uborn ustays useen thouses talways tnever tbeside) (h30 : Wd * R ≤ 30) : (xf_worst ulit umayor uborn ustays Wd R thouses talways tnever tbeside n what).1 = (mf_worst a b Wd R n what).1 ∧ (xf_worst ulit umayor uborn ustays Wd R thouses talways tnever tbeside n what).2 = (mf_worst a b Wd R n what).2.1 := by
  have e1 : xf_isIn what.toInt64 0 1 = true ↔ (¬ what < 0 ∧ ¬ 1 < what) := r_in2 (x := what) (N := 1) (by decide)
  have key : pW (mf_worst_L35 a Wd R n ((-1), (-1), b)) (xf_worst_L48 ulit umayor uborn ustays Wd R thouses talways tnever tbeside n ((-1), (-1))) := by
    unfold mf_worst_L35 xf_worst_L48
    refine zf_rel pW ⟨rfl, rfl, Or.inl rfl, Or.inl rfl⟩ _ (fun k hk s t hst => ?_)
    obtain ⟨i1, i2, i3, i4⟩ := hst
    unfold mf_worst_B35 xf_worst_B48 zlet
    dsimp only
    rw [r_free h.1, r_spoilsBy s.2.2 h, i1]
    by_cases c : (((thouses &&& ((talways ||| tnever) ^^^ (-1))) >>> ((nI k) &&& 31)) &&& 1) = 0
    · rw [if_pos c, if_pos c]; exact ⟨rfl, i2, i3, i4⟩
    · rw [if_neg c, if_neg c]
      by_cases d : t.1 < nI (xf_spoilsOf ulit umayor uborn ustays Wd R thouses talways tnever tbeside (nI k) n.toNatClampNeg)
      · rw [if_pos d, if_pos d]
        refine ⟨rfl, rfl, Or.inr (nI_pos (Nat.lt_of_le_of_lt (zpc_le _) (by decide))), Or.inr (nI_pos (by omega))⟩
      · rw [if_neg d, if_neg d]; exact ⟨rfl, i2, i3, i4⟩
  unfold xf_worst mf_worst zlet
  rw [r_in]
  by_cases c : xf_isIn n.toInt64 0 30 = true
  · rw [if_pos c, if_pos c]
    generalize mf_worst_L35 a Wd R n ((-1), (-1), b) = s at key ⊢
    generalize xf_worst_L48 ulit umayor uborn ustays Wd R thouses talways tnever tbeside n ((-1), (-1)) = t at key ⊢
    obtain ⟨i1, i2, i3, i4⟩ := key
    by_cases d : what < 0
    · rw [if_pos d, if_neg (fun q => (e1.mp q).1 d)]; exact ⟨rfl, rfl⟩
    · rw [if_neg d]
      by_cases e : what ≤ 1
      · rw [if_pos e, if_pos (e1.mpr ⟨d, Int32.not_lt.mpr e⟩)]
        dsimp only
        by_cases f : what = 0
        · rw [if_pos f, if_pos f, i2, r_answer i4]; exact ⟨rfl, rfl⟩
        · rw [if_neg f, if_neg f, i1, r_answer i3]; exact ⟨rfl, rfl⟩
      · rw [if_neg e, if_neg (fun q => (e1.mp q).2 (Int32.not_le.mp e))]; exact ⟨rfl, rfl⟩
  · rw [if_neg c, if_neg c]; exact ⟨rfl, rfl⟩
theorem rr_reads {kk what : Int32} (h : pH a Wd R nr ulit umayor unight uoil uborn ustays useen thouses talways tnever tbeside) (hW0 : 1 ≤ Wd) (hW5 : Wd ≤ 5) (hR0 : 1 ≤ R) (hR6 : R ≤ 6) : xf_reads ulit Wd R kk what = mf_reads a Wd R kk what := by
  have e1 : xf_isIn what.toInt64 0 1 = true ↔ (¬ what < 0 ∧ ¬ 1 < what) := r_in2 (x := what) (N := 1) (by decide)
  have eR := r_in1 (x := kk) (N := R) (by omega) (by omega)
  have eW := r_in1 (x := kk) (N := Wd) (by omega) (by omega)
  unfold xf_reads mf_reads zlet
  by_cases d : what < 0
  · rw [if_pos d, if_neg (fun q => (e1.mp q).1 d)]
  · rw [if_neg d]
    by_cases e : 1 < what
    · rw [if_pos e, if_neg (fun q => (e1.mp q).2 e)]
    · rw [if_neg e, if_pos (e1.mpr ⟨d, e⟩)]
      by_cases g : kk < 0
      · rw [if_pos g, if_neg (fun q => (eR.mp q).1 g), if_neg (fun q => (eW.mp q).1 g)]
        split <;> rfl
      · rw [if_neg g]
        by_cases f : what = 0
        · rw [if_pos f, if_pos f]
          by_cases k : kk < nI R
          · rw [if_pos k, if_pos (eR.mpr ⟨g, Int32.not_le.mpr k⟩), h.2.1]; rfl
          · rw [if_neg k, if_neg (fun q => (eR.mp q).2 (Int32.not_lt.mp k))]
        · rw [if_neg f, if_neg f]
          by_cases k : kk < nI Wd
          · rw [if_pos k, if_pos (eW.mpr ⟨g, Int32.not_le.mpr k⟩)]
            have e3 : xf_reads_L83 ulit Wd R kk 0 = mf_reads_L67 a Wd R kk 0 := by
              unfold xf_reads_L83 mf_reads_L67
              refine zf_congr _ (fun j _ s => ?_)
              unfold xf_reads_B83 mf_reads_B67
              rw [h.2.1, pk_mul]
            rw [e3]
          · rw [if_neg k, if_neg (fun q => (eW.mp q).2 (Int32.not_lt.mp k))]
theorem rr_company {ab un tp bo : Int64} (h : pH a Wd R nr ulit umayor unight uoil uborn ustays useen thouses talways tnever tbeside) (h1 : ab = tp) (h2 : un = bo) : xf_company ab un ulit Wd R tbeside = ((mf_company tp bo a b Wd R).1, (mf_company tp bo a b Wd R).2.1, (mf_company tp bo a b Wd R).2.2.1, (mf_company tp bo a b Wd R).2.2.2.1) := by
  subst h1; subst h2
  have e1 : xf_company_L33 ulit Wd R tbeside 0 = mf_company_L24 a Wd R (mf_laysNear a b Wd R) 0 := by
    unfold xf_company_L33 mf_company_L24
    refine zf_congr _ (fun k hk s => ?_)
    unfold xf_company_B33 mf_company_B24
    rw [h.2.1, r_lay h.1 hk]
  have e2 : ∀ n d, mf_tellsBy n d = (true, 0, (xf_fraction n d).2.1, (xf_fraction n d).2.2) := fun n d => by
    have e3 : xf_fraction_B9 d = mf_tellsBy_B6 d := rfl
    have e4 : ∀ s, xf_fraction_L9 d s = mf_tellsBy_L6 d s := fun s => by unfold xf_fraction_L9 mf_tellsBy_L6; rw [e3]
    unfold mf_tellsBy xf_fraction zlet
    rw [e4]
  unfold xf_company mf_company zlet
  rw [e1, h.2.1]
  by_cases c : ulit = 0
  · rw [if_pos c, if_pos c]
  · rw [if_neg c, if_neg c]
    dsimp only
    rw [e2]
/-- all of them: a fold of truths, and a loop that leaves at the first false one -/
theorem zf_all {N : Nat} {f : Nat → Bool → Bool} {c : Nat → Bool} (hf : ∀ k, k < N → ∀ s, f k s = (s && c k)) : ∀ n, n ≤ N → (zf f true n = true ↔ ∀ j, j < n → c j = true) ∧ zf f false n = false
  | 0, _ => ⟨⟨fun _ _ h => absurd h (Nat.not_lt_zero _), fun _ => rfl⟩, rfl⟩
  | n + 1, hn => by
    obtain ⟨i1, i2⟩ := zf_all hf n (by omega)
    have e1 : zf f true (n + 1) = f n (zf f true n) := rfl
    have e2 : zf f false (n + 1) = f n (zf f false n) := rfl
    rw [e1, e2, hf n (by omega), hf n (by omega), i2, Bool.and_eq_true, i1]
    refine ⟨⟨fun q j hj => ?_, fun q => ⟨fun j hj => q j (by omega), q n (by omega)⟩⟩, rfl⟩
    by_cases e : j = n
    · rw [e]; exact q.2
    · exact q.1 j (by omega)
theorem zw_all {ρ : Type} {N : Nat} {c : Nat → Bool} {g : Nat → Nat ⊕ (Nat ⊕ ρ)} {d : Nat ⊕ ρ} {r0 : ρ} (hg : ∀ k, k ≤ N → g k = if N ≤ k then .inr (.inl k) else if c k = true then .inl (k + 1) else .inr (.inr r0)) : ∀ n k, N - k < n → k ≤ N → (∀ j, j < k → c j = true) → ((∀ j, j < N → c j = true) ∧ zw g d n k = .inl N) ∨ (¬ (∀ j, j < N → c j = true) ∧ zw g d n k = .inr r0)
  | 0, k, h, _, _ => absurd h (Nat.not_lt_zero _)
  | n + 1, k, h, hk, hc => by
    have e := hg k hk
    by_cases q : N ≤ k
    · rw [if_pos q] at e
      have : k = N := Nat.le_antisymm hk q
      subst this
      exact Or.inl ⟨hc, zw_r e⟩
    · rw [if_neg q] at e
      by_cases r : c k = true
      · rw [if_pos r] at e
        rw [zw_l e]
        exact zw_all hg n (k + 1) (by omega) (by omega) (fun j hj => by
          by_cases z : j = k
          · rw [z]; exact r
          · exact hc j (by omega))
      · rw [if_neg r] at e
        exact Or.inr ⟨fun z => r (z k (by omega)), zw_r e⟩
theorem row_1 : ∀ W, W < 6 → ∀ k, k < W → bt (((1 : Int32) <<< (nI W &&& 31)) - 1) k = true := by decide +kernel
theorem row_b {lit : Int32} {y k : Nat} (hW5 : Wd ≤ 5) (hk : k < Wd) (hy : Wd * y + k < 32) : ((mf_rowOf Wd lit (nI y) >>> (nI k &&& 31)) &&& 1) = ((lit >>> (nI (Wd * y + k) &&& 31)) &&& 1) := by
  refine b_ext (fun i hi => ?_)
  rw [b_and, b_and, bt_1 i hi]
  by_cases e : i = 0
  · subst e
    rw [b_sshr k (by omega) _ hi, b_sshr (Wd * y + k) hy _ hi, if_pos (by omega), if_pos (by omega)]
    unfold mf_rowOf
    rw [b_and, pk_mul, b_sshr (Wd * y) (by omega) _ (show k + 0 < 32 by omega), if_pos (by omega), Nat.add_zero, Nat.add_zero, row_1 Wd (by omega) k hk, Bool.and_true]
  · rw [show decide (i = 0) = false from decide_eq_false e, Bool.and_false, Bool.and_false]
/-- a row's two ends -/
def mirC (lit : Int32) (Wd y k : Nat) : Bool := decide (((lit >>> (nI (Wd * y + k) &&& 31)) &&& 1) = ((lit >>> (nI (Wd * y + ((Wd - 1) - k)) &&& 31)) &&& 1))
theorem mir_in {y : Nat} (h3 : a 3 = ulit) (hW5 : Wd ≤ 5) (hR6 : R ≤ 6) (hy : y < R) : ∀ k, k < Wd → ∀ s, mf_mirror_B29 a Wd y k s = (s && mirC ulit Wd y k) := by
  intro k hk s
  have hy5 : Wd * y + Wd ≤ 30 := by
    have h1 : Wd * (y + 1) ≤ 5 * 6 := Nat.mul_le_mul hW5 (by omega)
    rw [Nat.mul_add] at h1
    omega
  unfold mf_mirror_B29 mirC
  rw [h3, row_b hW5 hk (by omega), row_b hW5 (show (Wd - 1) - k < Wd by omega) (by omega)]
  cases s
  · rfl
  · rw [if_pos rfl, Bool.true_and]
    split
    · next e => rw [decide_eq_true e]
    · next e => rw [decide_eq_false e]
theorem mir_L {y : Nat} (hW0 : 1 ≤ Wd) : xf_mirror_L20 ulit Wd y 0 = if (∀ j, j < Wd → mirC ulit Wd y j = true) then .inl Wd else .inr (0, 0) := by
  unfold xf_mirror_L20
  rcases zw_all (c := mirC ulit Wd y) (g := xf_mirror_B20 ulit Wd y) (d := .inl 0) (r0 := ((0 : Int32), (0 : Int32))) (N := Wd) (fun k hk => by
    unfold xf_mirror_B20 mirC
    by_cases q : Wd ≤ k
    · rw [if_pos q, if_pos q]
    · rw [if_neg q, if_neg q, pk_mul, show nI Wd - 1 = nI (Wd - 1) from (by rw [show (1 : Int32) = nI 1 by decide]; exact pk_sub hW0), pk_sub (show k ≤ Wd - 1 by omega), nI_add, nI_add]
      split
      · next e => rw [if_pos (decide_eq_true e)]
      · next e => rw [if_neg (by rw [decide_eq_false e]; decide)]) ((Wd - 0) + 1) 0 (by omega) (by omega) (fun j hj => absurd hj (Nat.not_lt_zero _)) with ⟨h1, h2⟩ | ⟨h1, h2⟩
  · rw [if_pos h1]; exact h2
  · rw [if_neg h1]; exact h2
theorem rr_mirror (h : pH a Wd R nr ulit umayor unight uoil uborn ustays useen thouses talways tnever tbeside) (hW0 : 1 ≤ Wd) (hW5 : Wd ≤ 5) (hR6 : R ≤ 6) : xf_mirror ulit Wd R = mf_mirror a Wd R := by
  have hin : ∀ y, y < R → ∀ s, mf_mirror_B4 a Wd R y s = (s && decide (∀ j, j < Wd → mirC ulit Wd y j = true)) := fun y hy s => by
    have k := zf_all (mir_in (ulit := ulit) h.2.1 hW5 hR6 hy) Wd (Nat.le_refl _)
    unfold mf_mirror_B4 zlet mf_mirror_L29
    dsimp only
    cases s
    · rw [k.2]; rfl
    · rw [Bool.true_and]
      by_cases q : ∀ j, j < Wd → mirC ulit Wd y j = true
      · rw [decide_eq_true q]; exact k.1.mpr q
      · rw [decide_eq_false q]
        exact Bool.eq_false_iff.mpr (fun z => q (k.1.mp z))
  have k1 := (zf_all hin R (Nat.le_refl _)).1
  have k2 := zw_all (c := fun y => decide (∀ j, j < Wd → mirC ulit Wd y j = true)) (g := xf_mirror_B7 ulit Wd R) (d := .inl 0) (r0 := ((0 : Int32), (0 : Int32))) (N := R) (fun y hy => by
    unfold xf_mirror_B7
    rw [mir_L hW0]
    by_cases q : R ≤ y
    · rw [if_pos q, if_pos q]
    · rw [if_neg q, if_neg q]
      by_cases z : ∀ j, j < Wd → mirC ulit Wd y j = true
      · rw [if_pos z, if_pos (decide_eq_true z)]; rfl
      · rw [if_neg z, if_neg (by rw [decide_eq_false z]; decide)]; rfl) ((R - 0) + 1) 0 (by omega) (by omega) (fun j hj => absurd hj (Nat.not_lt_zero _))
  unfold xf_mirror mf_mirror zlet mf_mirror_L4 xf_mirror_L7
  dsimp only
  rcases k2 with ⟨h1, h2⟩ | ⟨h1, h2⟩
  · rw [if_pos (k1.mpr h1), h2]; rfl
  · rw [if_neg (fun z => h1 (k1.mp z)), h2]; rfl
end R10
