/-! r1: the hill's numbers and the model's numbers -/
theorem z_b01 (y : Int32) : y &&& 1 = 0 ∨ y &&& 1 = 1 := by
  obtain ⟨j, hj, e⟩ := pk_andE y (m := 1) 1 (by decide)
  have : j = 0 ∨ j = 1 := by omega
  rcases this with rfl | rfl
  · exact Or.inl e
  · exact Or.inr e
theorem zf_congr {σ : Type} {f g : Nat → σ → σ} {s0 : σ} : ∀ N, (∀ k, k < N → ∀ s, f k s = g k s) → zf f s0 N = zf g s0 N := by
  intro N
  induction N with
  | zero => exact fun _ => rfl
  | succ n ih =>
    intro h
    show f n (zf f s0 n) = g n (zf g s0 n)
    rw [ih (fun k hk s => h k (by omega) s)]
    exact h n (by omega) _
/-- the town as the model's numbers tell it -/
def pT (a : Nat → Int32) (Wd R : Nat) (thouses talways tnever : Int32) (tbeside : Nat → Int32) : Prop := a 2 = thouses ∧ a 4 = (talways ||| tnever) ∧ ∀ k, k < Wd * R → tbeside k = mf_near a Wd R k
/-- the hill -/
def pH (a : Nat → Int32) (Wd R nr : Nat) (ulit umayor unight uoil : Int32) (uborn ustays useen : Nat → Int32) (thouses talways tnever : Int32) (tbeside : Nat → Int32) : Prop :=
  pT a Wd R thouses talways tnever tbeside ∧ a 3 = ulit ∧ a 3 &&& a 4 = talways ∧ a 7 = unight ∧ a 8 = uoil ∧ a 10 = umayor ∧ (umayor = -1 ∨ (¬ umayor < 0 ∧ umayor.toNatClampNeg < nr)) ∧ nr ≤ 4 ∧ (∀ k, k < 4 → a (12 + 2 * k) = uborn k ∧ a (12 + 2 * k + 1) = ustays k) ∧ (∀ k, k < 10 → a (32 + k) = useen k)
section R1
variable {a b : Nat → Int32} {Wd R nr : Nat} {ulit umayor unight uoil : Int32} {uborn ustays useen : Nat → Int32} {thouses talways tnever : Int32} {tbeside : Nat → Int32}
theorem r_free (h : pT a Wd R thouses talways tnever tbeside) : mf_free a = thouses &&& ((talways ||| tnever) ^^^ (-1)) := by
  unfold mf_free
  rw [h.1, h.2.1]
theorem r_lay (h : pT a Wd R thouses talways tnever tbeside) {k : Nat} (hk : k < Wd * R) : mf_laysNear a b Wd R k = tbeside k := by
  rw [mf_laysNear_at, if_pos hk, h.2.2 k hk]
theorem i_sh0 (k : Int32) : (0 : Int32) <<< k = 0 := by
  apply Int32.toBitVec_inj.mp
  rw [Int32.toBitVec_shiftLeft]
  exact BitVec.zero_shiftLeft _
theorem r_nextBy (h : pT a Wd R thouses talways tnever tbeside) (h3 : a 3 &&& a 4 = talways) (hr4 : nr ≤ 4) (hb : ∀ k, k < 4 → a (12 + 2 * k) = uborn k ∧ a (12 + 2 * k + 1) = ustays k) {rule pic : Int32} (hru : rule = -1 ∨ (¬ rule < 0 ∧ rule.toNatClampNeg < nr)) : mf_becomes a (mf_laysNear a b Wd R) Wd R pic rule = hf_nextBy uborn ustays Wd R thouses talways tnever tbeside rule pic := by
  show _ = zf (hf_nextBy_B20 uborn ustays Wd R thouses talways tnever tbeside rule pic) talways (Wd * R)
  unfold mf_becomes
  by_cases c : rule = -1
  · rw [if_pos c, h3]
    have hn : rule < 0 := by rw [c]; decide
    refine (zf_inv (fun s : Int32 => s = talways) ?_ rfl (Wd * R)).symm
    intro k s hs
    unfold hf_nextBy_B20 hf_becomes
    rw [if_pos hn, if_pos hn]
    simp only [Bool.false_eq_true, if_false, ite_self]
    exact hs
  · rw [if_neg c]
    obtain ⟨r0, r1⟩ := hru.resolve_left c
    show zf (mf_becomes_B30 a (mf_laysNear a b Wd R) Wd R pic rule) (a 3 &&& a 4) (Wd * R) = _
    rw [h3]
    refine zf_congr _ (fun k hk s => ?_)
    obtain ⟨e1, e2⟩ := hb rule.toNatClampNeg (by omega)
    unfold mf_becomes_B30 hf_nextBy_B20 hf_becomes
    rw [r_free h, r_lay h hk, if_neg r0, if_neg r0, Int32.and_comm (tbeside k) pic]
    rcases z_b01 ((thouses &&& ((talways ||| tnever) ^^^ (-1))) >>> ((nI k) &&& 31)) with f | f
    · rw [f, if_pos (show (0 : Int32) = 0 from rfl), if_neg (show ¬ (0 : Int32) = 1 by decide)]
    · rw [f, if_neg (show ¬ (1 : Int32) = 0 by decide), if_pos (show (1 : Int32) = 1 from rfl)]
      rcases z_b01 (pic >>> ((nI k) &&& 31)) with q | q
      · rw [q, if_neg (show ¬ (0 : Int32) = 1 by decide), if_neg (show ¬ (false = true) by decide), show ((0 : Int32)).toNatClampNeg = 0 from rfl, Nat.add_zero, e1]
        rcases z_b01 (uborn rule.toNatClampNeg >>> (nI (zpc (pic &&& tbeside k)) &&& 31)) with g | g
        · rw [g, i_sh0, Int32.or_zero, if_neg (show ¬ (0 : Int32) = 1 by decide), if_neg (show ¬ (false = true) by decide)]
        · rw [g, if_pos (show (1 : Int32) = 1 from rfl), if_pos (show true = true from rfl)]
      · rw [q, if_pos (show (1 : Int32) = 1 from rfl), if_pos (show true = true from rfl), show ((1 : Int32)).toNatClampNeg = 1 from rfl, e2]
        rcases z_b01 (ustays rule.toNatClampNeg >>> (nI (zpc (pic &&& tbeside k)) &&& 31)) with g | g
        · rw [g, i_sh0, Int32.or_zero, if_neg (show ¬ (0 : Int32) = 1 by decide), if_neg (show ¬ (false = true) by decide)]
        · rw [g, if_pos (show (1 : Int32) = 1 from rfl), if_pos (show true = true from rfl)]
theorem r_next (h : pH a Wd R nr ulit umayor unight uoil uborn ustays useen thouses talways tnever tbeside) {pic : Int32} : mf_becomes a (mf_laysNear a b Wd R) Wd R pic (a 10) = hf_next umayor uborn ustays Wd R thouses talways tnever tbeside pic := by
  obtain ⟨hT, -, h3, -, -, h10, hm, hr, hb, -⟩ := h
  rw [h10]
  exact r_nextBy hT h3 hr hb hm
theorem r_after (h : pH a Wd R nr ulit umayor unight uoil uborn ustays useen thouses talways tnever tbeside) {pic : Int32} {n : Nat} : (mf_after a b Wd R pic n).1 = hf_after umayor uborn ustays Wd R thouses talways tnever tbeside pic n := by
  show zf (mf_after_B9 a Wd R n (mf_laysNear a b Wd R)) pic n = zf (hf_after_B5 umayor uborn ustays Wd R thouses talways tnever tbeside n) pic n
  exact zf_congr _ (fun k _ s => r_next h)
theorem r_paint (h : pH a Wd R nr ulit umayor unight uoil uborn ustays useen thouses talways tnever tbeside) {pic : Int32} : ((a 3 &&& a 4) ||| (pic &&& mf_free a)) = hf_paint thouses talways tnever pic := by
  obtain ⟨hT, -, h3, -⟩ := h
  rw [h3, r_free hT, Int32.or_comm]
  rfl
theorem i_sh1 : (1 : Int32) <<< ((1 : Int32) &&& 31) = 2 := by decide
theorem i_sh1' : (1 : Int32) <<< ((0 : Int32) &&& 31) = 1 := by decide
/-- one night, and what was seen in it -/
theorem r_goesL (h : pH a Wd R nr ulit umayor unight uoil uborn ustays useen thouses talways tnever tbeside) (hbe : ∀ k, k < Wd * R → zpc (tbeside k) ≤ 4) : ∀ n, n ≤ Wd * R → (∀ j, ¬ (32 ≤ j ∧ j < 42) → zf (mf_goes_B24 a Wd R (mf_laysNear a b Wd R)) a n j = a j) ∧ ∀ k, k < 10 → zf (mf_goes_B24 a Wd R (mf_laysNear a b Wd R)) a n (32 + k) = zf (hf_night_B11 ulit umayor uborn ustays Wd R thouses talways tnever tbeside) useen n k := by
  have hN : ∀ pic, mf_becomes a (mf_laysNear a b Wd R) Wd R pic (a 10) = hf_next umayor uborn ustays Wd R thouses talways tnever tbeside pic := fun pic => r_next h
  obtain ⟨hT, h3, -, -, -, -, -, -, -, hs⟩ := h
  intro n
  induction n with
  | zero => exact fun _ => ⟨fun j _ => rfl, hs⟩
  | succ n ih =>
    intro hn
    obtain ⟨i1, i2⟩ := ih (by omega)
    show (∀ j, ¬ (32 ≤ j ∧ j < 42) → mf_goes_B24 a Wd R (mf_laysNear a b Wd R) n (zf (mf_goes_B24 a Wd R (mf_laysNear a b Wd R)) a n) j = a j) ∧ ∀ k, k < 10 → mf_goes_B24 a Wd R (mf_laysNear a b Wd R) n (zf (mf_goes_B24 a Wd R (mf_laysNear a b Wd R)) a n) (32 + k) = hf_night_B11 ulit umayor uborn ustays Wd R thouses talways tnever tbeside n (zf (hf_night_B11 ulit umayor uborn ustays Wd R thouses talways tnever tbeside) useen n) k
    generalize zf (mf_goes_B24 a Wd R (mf_laysNear a b Wd R)) a n = s at i1 i2 ⊢
    generalize zf (hf_night_B11 ulit umayor uborn ustays Wd R thouses talways tnever tbeside) useen n = t at i2 ⊢
    unfold mf_goes_B24 hf_night_B11
    have ef : mf_free s = thouses &&& ((talways ||| tnever) ^^^ (-1)) := by
      unfold mf_free
      rw [i1 2 (by omega), i1 4 (by omega), hT.1, hT.2.1]
    rw [ef, i1 3 (by omega), h3, hN ulit, r_lay hT (show n < Wd * R by omega)]
    rcases z_b01 ((thouses &&& ((talways ||| tnever) ^^^ (-1))) >>> ((nI n) &&& 31)) with f | f
    · rw [f, if_pos rfl, if_neg (by decide)]; exact ⟨i1, i2⟩
    · rw [f, if_neg (by decide), if_pos rfl]
      have hg : hf_sight tbeside ulit n = 5 * ((ulit >>> ((nI n) &&& 31)) &&& 1).toNatClampNeg + zpc (tbeside n &&& ulit) := by unfold hf_sight; rw [Int32.and_comm ulit]
      have hg9 : hf_sight tbeside ulit n ≤ 9 := hf_sight_le (hbe n (by omega))
      rw [Nat.add_assoc, ← hg, i2 _ (show hf_sight tbeside ulit n < 10 by omega)]
      generalize hf_sight tbeside ulit n = g at hg9 ⊢
      rcases z_b01 (hf_next umayor uborn ustays Wd R thouses talways tnever tbeside ulit >>> ((nI n) &&& 31)) with q | q
      · rw [q, i_sh1', if_neg (by decide)]
        refine ⟨fun j hj => (pk_un (by omega)).trans (i1 j hj), fun k hk => ?_⟩
        by_cases e : k = g
        · rw [e, pk_us, pk_us]
        · rw [pk_un (by omega), pk_un e]; exact i2 k hk
      · rw [q, i_sh1, if_pos rfl]
        refine ⟨fun j hj => (pk_un (by omega)).trans (i1 j hj), fun k hk => ?_⟩
        by_cases e : k = g
        · rw [e, pk_us, pk_us]
        · rw [pk_un (by omega), pk_un e]; exact i2 k hk
theorem mf_near_same {c : Nat → Int32} (h2 : c 2 = a 2) (h9 : c 9 = a 9) (k : Nat) : mf_near c Wd R k = mf_near a Wd R k := by
  rw [mf_near_eq, mf_near_eq, h2, h9]
theorem r_goes (h : pH a Wd R nr ulit umayor unight uoil uborn ustays useen thouses talways tnever tbeside) (hbe : ∀ k, k < Wd * R → zpc (tbeside k) ≤ 4) (hnx : hf_next umayor uborn ustays Wd R thouses talways tnever tbeside ulit &&& (talways ||| tnever) = talways) : pH (mf_goes a b Wd R).1 Wd R nr (hf_night ulit umayor unight uoil uborn ustays useen Wd R thouses talways tnever tbeside).1 umayor (hf_night ulit umayor unight uoil uborn ustays useen Wd R thouses talways tnever tbeside).2.1 (hf_night ulit umayor unight uoil uborn ustays useen Wd R thouses talways tnever tbeside).2.2.1 uborn ustays (hf_night ulit umayor unight uoil uborn ustays useen Wd R thouses talways tnever tbeside).2.2.2 thouses talways tnever tbeside := by
  obtain ⟨k1, k2⟩ := r_goesL (b := b) h hbe (Wd * R) (Nat.le_refl _)
  have hN : mf_becomes a (mf_laysNear a b Wd R) Wd R (a 3) (a 10) = hf_next umayor uborn ustays Wd R thouses talways tnever tbeside ulit := by rw [h.2.1]; exact r_next h
  obtain ⟨hT, h3, h34, h7, h8, h10, hm, hr, hb, hs⟩ := h
  show pH (upd (upd (upd (zf (mf_goes_B24 a Wd R (mf_laysNear a b Wd R)) a (Wd * R)) 8 (zf (mf_goes_B24 a Wd R (mf_laysNear a b Wd R)) a (Wd * R) 8 + nI (zpc (zf (mf_goes_B24 a Wd R (mf_laysNear a b Wd R)) a (Wd * R) 3)))) 3 (mf_becomes a (mf_laysNear a b Wd R) Wd R (a 3) (a 10))) 7 (zf (mf_goes_B24 a Wd R (mf_laysNear a b Wd R)) a (Wd * R) 7 + 1)) Wd R nr (hf_next umayor uborn ustays Wd R thouses talways tnever tbeside ulit) umayor (unight + 1) (uoil + nI (zpc ulit)) uborn ustays (zf (hf_night_B11 ulit umayor uborn ustays Wd R thouses talways tnever tbeside) useen (Wd * R)) thouses talways tnever tbeside
  rw [hN, k1 8 (by omega), k1 3 (by omega), k1 7 (by omega), h3, h7, h8]
  generalize zf (mf_goes_B24 a Wd R (mf_laysNear a b Wd R)) a (Wd * R) = s at k1 k2 ⊢
  generalize zf (hf_night_B11 ulit umayor uborn ustays Wd R thouses talways tnever tbeside) useen (Wd * R) = t at k2 ⊢
  have u : ∀ j, ¬ j = 8 → ¬ j = 3 → ¬ j = 7 → ∀ x y z : Int32, upd (upd (upd s 8 x) 3 y) 7 z j = s j := fun j a1 a2 a3 x y z => by rw [pk_un a3, pk_un a2, pk_un a1]
  refine ⟨⟨?_, ?_, fun k hk => ?_⟩, ?_, ?_, ?_, ?_, ?_, hm, hr, fun k hk => ⟨?_, ?_⟩, fun k hk => ?_⟩
  · rw [u 2 (by decide) (by decide) (by decide), k1 2 (by omega)]; exact hT.1
  · rw [u 4 (by decide) (by decide) (by decide), k1 4 (by omega)]; exact hT.2.1
  · rw [hT.2.2 k hk]
    exact (mf_near_same (by rw [u 2 (by decide) (by decide) (by decide), k1 2 (by omega)]) (by rw [u 9 (by decide) (by decide) (by decide), k1 9 (by omega)]) k).symm
  · rw [pk_un (by decide), pk_us]
  · rw [pk_un (by decide), pk_us, u 4 (by decide) (by decide) (by decide), k1 4 (by omega), hT.2.1]; exact hnx
  · exact pk_us
  · rw [pk_un (by decide), pk_un (by decide), pk_us]
  · rw [u 10 (by decide) (by decide) (by decide), k1 10 (by omega)]; exact h10
  · rw [u _ (by omega) (by omega) (by omega), k1 _ (by omega)]; exact (hb k hk).1
  · rw [u _ (by omega) (by omega) (by omega), k1 _ (by omega)]; exact (hb k hk).2
  · rw [u _ (by omega) (by omega) (by omega)]; exact k2 k hk
theorem r_in (v lo hi : Int64) : mf_isFrom v lo hi = xf_isIn v lo hi := rfl
end R1
