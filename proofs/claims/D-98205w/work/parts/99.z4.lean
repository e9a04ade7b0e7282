/-! r17: rows that fit -/
section R17
variable {a b th : Nat → Int32} {Wd R nr nc : Nat} {ulit umayor unight uoil : Int32} {uborn ustays useen : Nat → Int32} {thouses talways tnever : Int32} {tbeside tleast tmost : Nat → Int32} {tring : Bool}
theorem sh_0 (x : Int32) : (x >>> ((0 : Int32) &&& 31)) = x := b_ext (fun i hi => by
  rw [show (0 : Int32) = nI 0 from rfl, b_sshr 0 (by decide) x hi, if_pos (by omega), Nat.zero_add])
/-- the neighbours to the left and to the right in a row -/
def nL (own : Int32) (Wd : Nat) (tring : Bool) (s : Nat) : Int32 := if s = 0 then (if tf_joins Wd tring = true then ((own >>> ((nI (Wd - 1)) &&& 31)) &&& 1) else 0) else ((own >>> ((nI (s - 1)) &&& 31)) &&& 1)
def nR (own : Int32) (Wd : Nat) (tring : Bool) (s : Nat) : Int32 := if Wd ≤ s + 1 then (if tf_joins Wd tring = true then (own &&& 1) else 0) else ((own >>> ((nI (s + 1)) &&& 31)) &&& 1)
def nS (above own undr : Int32) (Wd : Nat) (tring : Bool) (s : Nat) : Int32 := ((((above >>> ((nI s) &&& 31)) &&& 1) + ((undr >>> ((nI s) &&& 31)) &&& 1)) + nL own Wd tring s) + nR own Wd tring s
theorem v_L {own : Int32} {s : Nat} (hW5 : Wd ≤ 5) (hs : s < Wd) : xf_fits6_V181 own (xf_fits6_V102 Wd tring s) = nL own Wd tring s := by
  unfold xf_fits6_V181 xf_fits6_V102 nL
  by_cases c : s = 0
  · rw [if_pos c, if_pos c]
    by_cases d : tf_joins Wd tring = true
    · rw [if_pos d, if_pos d, if_pos (Int32.not_lt.mp (nI_pos (by omega)))]
    · rw [if_neg d, if_neg d, if_neg (by decide)]
  · rw [if_neg c, if_neg c, if_pos (Int32.not_lt.mp (nI_pos (by omega)))]
theorem v_R {own : Int32} {s : Nat} (hW5 : Wd ≤ 5) (hs : s < Wd) : xf_fits6_V197 own (xf_fits6_V134 Wd tring s) = nR own Wd tring s := by
  unfold xf_fits6_V197 xf_fits6_V134 nR
  by_cases c : Wd ≤ s + 1
  · rw [if_pos c, if_pos c]
    by_cases d : tf_joins Wd tring = true
    · rw [if_pos d, if_pos d, if_pos (by decide), sh_0]
    · rw [if_neg d, if_neg d, if_neg (by decide)]
  · rw [if_neg c, if_neg c, if_pos (Int32.not_lt.mp (nI_pos (by omega)))]
/-- one step of the model's row -/
theorem m56 {above own undr y : Int32} {s : Nat} {t : Int32} (hj : a 9 = 1 ↔ tf_joins Wd tring = true) : mf_rowBecomes_B56 a Wd above own undr y (s, t) = if Wd ≤ s then .inr (s, t) else if a 10 = -1 then .inr (s, t) else if (((mf_rowOf Wd (a 2) y) &&& ((mf_rowOf Wd (a 4) y) ^^^ (-1))) &&& ((1 : Int32) <<< ((nI s) &&& 31))) = 0 then .inl (s + 1, t) else .inl (s + 1, t ||| ((((a (12 + (2 * ((a 10).toNatClampNeg)) + (((own >>> ((nI s) &&& 31)) &&& 1).toNatClampNeg))) >>> ((nS above own undr Wd tring s) &&& 31)) &&& 1) <<< ((nI s) &&& 31))) := by
  unfold mf_rowBecomes_B56 zlet nS nL nR
  dsimp only
  by_cases c1 : Wd ≤ s
  · rw [if_pos c1, if_pos c1]
  rw [if_neg c1, if_neg c1]
  by_cases c2 : a 10 = -1
  · rw [if_pos c2, if_pos c2]
  rw [if_neg c2, if_neg c2]
  by_cases c3 : (((mf_rowOf Wd (a 2) y) &&& ((mf_rowOf Wd (a 4) y) ^^^ (-1))) &&& ((1 : Int32) <<< ((nI s) &&& 31))) = 0
  · rw [if_pos c3, if_pos c3]
  rw [if_neg c3, if_neg c3]
  by_cases c4 : s = 0
  · rw [if_pos c4, if_pos c4]
    by_cases c5 : a 9 = 1
    · rw [if_pos c5, if_pos (hj.mp c5)]
      by_cases c6 : Wd ≤ s + 1
      · rw [if_pos c6, if_pos c6, if_pos (hj.mp c5)]
      · rw [if_neg c6, if_neg c6]
    · rw [if_neg c5, if_neg (fun q => c5 (hj.mpr q))]
      by_cases c6 : Wd ≤ s + 1
      · rw [if_pos c6, if_pos c6, if_neg (fun q => c5 (hj.mpr q)), Int32.add_zero, Int32.add_zero]
      · rw [if_neg c6, if_neg c6, Int32.add_zero]
  · rw [if_neg c4, if_neg c4]
    by_cases c6 : Wd ≤ s + 1
    · rw [if_pos c6, if_pos c6]
      by_cases c5 : a 9 = 1
      · rw [if_pos c5, if_pos (hj.mp c5)]
      · rw [if_neg c5, if_neg (fun q => c5 (hj.mpr q)), Int32.add_zero]
    · rw [if_neg c6, if_neg c6]
theorem strip_b {z : Int32} {y i : Nat} (hW5 : Wd ≤ 5) (hy : Wd * y + Wd ≤ 32) (hi : i < 32) : bt (xf_strip Wd z (nI y)) i = (decide (i < Wd) && bt z (Wd * y + i)) := by
  unfold xf_strip
  rw [b_and, pk_mul, low_b Wd (by omega) i hi]
  by_cases c : i < Wd
  · rw [b_sshr (Wd * y) (by omega) z hi, if_pos (by omega), decide_eq_true c, Bool.and_true, Bool.true_and]
  · rw [decide_eq_false c, Bool.and_false, Bool.false_and]
/-- what the rule says of a place -/
def rB (uborn ustays : Nat → Int32) (umayor above own undr : Int32) (Wd : Nat) (tring : Bool) (i : Nat) : Bool := hf_becomes uborn ustays umayor (bt own i) (nS above own undr Wd tring i)
theorem t_bt0 {x : Int32} {k : Nat} (hk : k < 32) : ((x >>> (nI k &&& 31)) &&& 1) = if bt x k = true then 1 else 0 := by
  by_cases c : bt x k = true
  · rw [if_pos c]; exact (t_bt hk).mpr c
  · rw [if_neg c]; exact (z_b01 _).resolve_right (fun q => c ((t_bt hk).mp q))
theorem z_bit {x n : Int32} : ((x >>> (n &&& 31)) &&& 1) = 0 ∨ ((x >>> (n &&& 31)) &&& 1) = 1 := z_b01 _
/-- the bits of the row that comes -/
theorem rowBits {above own undr : Int32} {y : Nat} (h : pH a Wd R nr ulit umayor unight uoil uborn ustays useen thouses talways tnever tbeside) (hj : a 9 = 1 ↔ tf_joins Wd tring = true) (hW5 : Wd ≤ 5) (hy : Wd * y + Wd ≤ 32) : ∀ i, i < 32 → bt (mf_rowBecomes a Wd above own undr (nI y)) i = ((decide (i < Wd) && bt talways (Wd * y + i)) || (decide (i < Wd) && bt (thouses &&& ((talways ||| tnever) ^^^ (-1))) (Wd * y + i) && rB uborn ustays umayor above own undr Wd tring i)) := by
  obtain ⟨hT, h3, h34, -, -, h10, hm, hr4, hb, -⟩ := h
  have hbase : ∀ i, i < 32 → bt ((mf_rowOf Wd (a 3) (nI y)) &&& (mf_rowOf Wd (a 4) (nI y))) i = (decide (i < Wd) && bt talways (Wd * y + i)) := fun i hi => by
    rw [b_and, show mf_rowOf Wd (a 3) (nI y) = xf_strip Wd (a 3) (nI y) from rfl, show mf_rowOf Wd (a 4) (nI y) = xf_strip Wd (a 4) (nI y) from rfl, strip_b hW5 hy hi, strip_b hW5 hy hi, ← h34, b_and]
    cases decide (i < Wd) <;> simp
  have hfree : ∀ i, i < Wd → ((((mf_rowOf Wd (a 2) (nI y)) &&& ((mf_rowOf Wd (a 4) (nI y)) ^^^ (-1))) &&& ((1 : Int32) <<< ((nI i) &&& 31))) = 0 ↔ bt (thouses &&& ((talways ||| tnever) ^^^ (-1))) (Wd * y + i) = false) := fun i hi => by
    rw [i_msk (show i < 32 by omega), b_and, b_xor, b_m1 i (by omega), show mf_rowOf Wd (a 2) (nI y) = xf_strip Wd (a 2) (nI y) from rfl, show mf_rowOf Wd (a 4) (nI y) = xf_strip Wd (a 4) (nI y) from rfl, strip_b hW5 hy (by omega), strip_b hW5 hy (by omega), decide_eq_true hi, Bool.true_and, Bool.true_and, hT.1, hT.2.1, b_and, b_xor, b_m1 _ (by omega)]
  intro i hi
  unfold mf_rowBecomes zlet mf_rowBecomes_L56
  dsimp only
  generalize (mf_rowOf Wd (a 3) (nI y)) &&& (mf_rowOf Wd (a 4) (nI y)) = base at hbase ⊢
  by_cases c2 : a 10 = -1
  · have e1 : mf_rowBecomes_B56 a Wd above own undr (nI y) (0, base) = .inr (0, base) := by
      rw [m56 hj]
      split
      · rfl
      · rfl
    rw [zw_r e1]
    show bt base i = _
    have hr0 : rB uborn ustays umayor above own undr Wd tring i = false := by
      unfold rB hf_becomes
      rw [← h10, c2, if_pos (by decide)]
    rw [hbase i hi, hr0, Bool.and_false, Bool.or_false]
  · obtain ⟨m0, m1⟩ := hm.resolve_left (fun q => c2 (h10.trans q))
    obtain ⟨r1, r2⟩ := hb umayor.toNatClampNeg (by omega)
    have key := zw_mu (f := mf_rowBecomes_B56 a Wd above own undr (nI y)) (d := (0, base)) (I := fun s => s.1 ≤ Wd ∧ ∀ i, i < 32 → bt s.2 i = ((decide (i < Wd) && bt talways (Wd * y + i)) || (decide (i < s.1) && bt (thouses &&& ((talways ||| tnever) ^^^ (-1))) (Wd * y + i) && rB uborn ustays umayor above own undr Wd tring i))) (P := fun r => ∀ i, i < 32 → bt r.2 i = ((decide (i < Wd) && bt talways (Wd * y + i)) || (decide (i < Wd) && bt (thouses &&& ((talways ||| tnever) ^^^ (-1))) (Wd * y + i) && rB uborn ustays umayor above own undr Wd tring i))) (μ := fun s => Wd - s.1) (fun s s' hI e => by
        obtain ⟨x, t⟩ := s
        rw [m56 hj] at e
        by_cases c1 : Wd ≤ x
        · rw [if_pos c1] at e; cases e
        · rw [if_neg c1, if_neg c2] at e
          have hx : x < Wd := by omega
          by_cases c3 : (((mf_rowOf Wd (a 2) (nI y)) &&& ((mf_rowOf Wd (a 4) (nI y)) ^^^ (-1))) &&& ((1 : Int32) <<< ((nI x) &&& 31))) = 0
          · rw [if_pos c3] at e
            cases e
            refine ⟨⟨hx, fun j hj2 => ?_⟩, by show Wd - (x + 1) < Wd - x; omega⟩
            have := hI.2 j hj2
            rw [this]
            by_cases z : j = x
            · subst z
              rw [(hfree j hx).mp c3]
              simp
            · have : decide (j < x) = decide (j < x + 1) := by
                by_cases w : j < x
                · rw [decide_eq_true w, decide_eq_true (by omega)]
                · rw [decide_eq_false w, decide_eq_false (by omega)]
              show _ = ((decide (j < Wd) && bt talways (Wd * y + j)) || (decide (j < x + 1) && _ && _))
              rw [← this]
          · rw [if_neg c3] at e
            cases e
            have fx : bt (thouses &&& ((talways ||| tnever) ^^^ (-1))) (Wd * y + x) = true := by
              cases q : bt (thouses &&& ((talways ||| tnever) ^^^ (-1))) (Wd * y + x)
              · exact absurd ((hfree x hx).mpr q) c3
              · rfl
            have hv : ∀ j, j < 32 → bt ((((a (12 + (2 * ((a 10).toNatClampNeg)) + (((own >>> ((nI x) &&& 31)) &&& 1).toNatClampNeg))) >>> ((nS above own undr Wd tring x) &&& 31)) &&& 1) <<< ((nI x) &&& 31)) j = (decide (j = x) && rB uborn ustays umayor above own undr Wd tring x) := fun j hj2 => by
              have hbit : ∀ v : Int32, bt ((((v >>> ((nS above own undr Wd tring x) &&& 31)) &&& 1)) <<< ((nI x) &&& 31)) j = (decide (j = x) && (if ((v >>> ((nS above own undr Wd tring x) &&& 31)) &&& 1) = 1 then true else false)) := fun v => by
                rcases z_bit (x := v) (n := nS above own undr Wd tring x) with g | g
                · rw [g, i_sh0, b_0, if_neg (show ¬ (0 : Int32) = 1 by decide), Bool.and_false]
                · rw [g, bt_s (by omega) hj2, if_pos rfl, Bool.and_true]
              rw [hbit, h10, t_bt0 (show x < 32 by omega)]
              unfold rB hf_becomes
              rw [if_neg m0]
              by_cases g : bt own x = true
              · rw [if_pos g, if_pos g, show ((1 : Int32)).toNatClampNeg = 1 from rfl, r2]
              · rw [if_neg g, if_neg g, show ((0 : Int32)).toNatClampNeg = 0 from rfl, Nat.add_zero, r1]
            refine ⟨⟨hx, fun j hj2 => ?_⟩, by show Wd - (x + 1) < Wd - x; omega⟩
            show bt (t ||| _) j = ((decide (j < Wd) && bt talways (Wd * y + j)) || (decide (j < x + 1) && bt (thouses &&& ((talways ||| tnever) ^^^ (-1))) (Wd * y + j) && rB uborn ustays umayor above own undr Wd tring j))
            rw [b_or, hI.2 j hj2, hv j hj2]
            by_cases z : j = x
            · subst z
              rw [fx, decide_eq_true rfl, show decide (j < (j, t).1) = false from decide_eq_false (Nat.lt_irrefl _), decide_eq_true (Nat.lt_succ_self j)]
              simp
            · have : decide (j < x) = decide (j < x + 1) := by
                by_cases w : j < x
                · rw [decide_eq_true w, decide_eq_true (by omega)]
                · rw [decide_eq_false w, decide_eq_false (by omega)]
              rw [decide_eq_false z, Bool.false_and, Bool.or_false, ← this]) (fun s r hI e => by
        obtain ⟨x, t⟩ := s
        rw [m56 hj] at e
        by_cases c1 : Wd ≤ x
        · rw [if_pos c1] at e
          cases e
          have hx : x = Wd := Nat.le_antisymm hI.1 c1
          subst hx
          exact hI.2
        · rw [if_neg c1, if_neg c2] at e
          split at e <;> cases e) ((Wd - 0) + 1) (0, base) (Nat.lt_succ_self _) ⟨Nat.zero_le _, fun j hj2 => by
        show bt base j = _
        rw [hbase j hj2, show decide (j < (0, base).1) = false from decide_eq_false (Nat.not_lt_zero _), Bool.false_and, Bool.false_and, Bool.or_false]⟩
    exact key i hi
/-- rows fit: the system's answer is the model's -/
theorem r_fits6 {above own undr : Int32} {y : Nat} {self : Bool} (h : pH a Wd R nr ulit umayor unight uoil uborn ustays useen thouses talways tnever tbeside) (hj : a 9 = 1 ↔ tf_joins Wd tring = true) (hW5 : Wd ≤ 5) (hy : Wd * y + Wd ≤ 32) (hsub : talways &&& thouses = talways) {target : Int32} (ht : self = false → target = ulit) : xf_fits6 umayor uborn ustays Wd thouses talways tnever tring (nI y) above own undr target self = mf_isGood a Wd above own undr (nI y) self := by
  have hm : mf_isGood a Wd above own undr (nI y) self = decide (mf_rowBecomes a Wd above own undr (nI y) = xf_fits6_V14 Wd (nI y) own target self) := by
    unfold mf_isGood xf_fits6_V14
    cases self
    · rw [if_neg (show ¬ false = true by decide), if_neg (show ¬ false = true by decide), h.2.1, ht rfl]
      show (if _ = xf_strip Wd ulit (nI y) then true else false) = _
      split
      · next e => rw [decide_eq_true e]
      · next e => rw [decide_eq_false e]
    · rw [if_pos rfl, if_pos rfl]
      split
      · next e => rw [decide_eq_true e]
      · next e => rw [decide_eq_false e]
  rw [hm]
  have hT := rowBits (above := above) (own := own) (undr := undr) h hj hW5 hy
  generalize mf_rowBecomes a Wd above own undr (nI y) = T at hT ⊢
  unfold xf_fits6 zlet
  generalize xf_fits6_V14 Wd (nI y) own target self = mu
  dsimp only
  -- the loop
  have hall := zw_all (c := fun x => !(bt (thouses &&& ((talways ||| tnever) ^^^ (-1))) (Wd * y + x)) || (bt mu x == rB uborn ustays umayor above own undr Wd tring x)) (g := xf_fits6_B82 umayor uborn ustays Wd thouses talways tnever tring (nI y) above own undr mu) (d := .inl 0) (r0 := false) (N := Wd) (fun x hx => by
    unfold xf_fits6_B82 zlet
    by_cases c : Wd ≤ x
    · rw [if_pos c, if_pos c]
    · rw [if_neg c, if_neg c]
      have hx : x < Wd := by omega
      rw [t_bt0 (show x < 32 by omega), strip_b hW5 hy (show x < 32 by omega), decide_eq_true hx, Bool.true_and]
      by_cases d : bt (thouses &&& ((talways ||| tnever) ^^^ (-1))) (Wd * y + x) = true
      · rw [if_pos d, if_neg (show ¬ (1 : Int32) = 0 by decide)]
        dsimp only
        rw [v_L hW5 hx, v_R hW5 hx, t_bt0 (show x < 32 by omega), d]
        have e1 : hf_becomes uborn ustays umayor (xf_fits6_V226 own x) (((((above >>> ((nI x) &&& 31)) &&& 1) + ((undr >>> ((nI x) &&& 31)) &&& 1)) + nL own Wd tring x) + nR own Wd tring x) = rB uborn ustays umayor above own undr Wd tring x := by
          unfold rB nS xf_fits6_V226
          congr 1
          rw [t_bt0 (show x < 32 by omega)]
          cases bt own x <;> rfl
        rw [e1]
        cases bt mu x <;> cases rB uborn ustays umayor above own undr Wd tring x <;> rfl
      · rw [if_neg d, if_pos rfl, Bool.eq_false_iff.mpr d]
        rfl) ((Wd - 0) + 1) 0 (by omega) (by omega) (fun j hj => absurd hj (Nat.not_lt_zero _))
  unfold xf_fits6_L82
  -- bits
  have sA : ∀ i, i < 32 → bt (xf_strip Wd talways (nI y)) i = (decide (i < Wd) && bt talways (Wd * y + i)) := fun i hi => strip_b hW5 hy hi
  have sF : ∀ i, i < 32 → bt (xf_strip Wd (thouses &&& ((talways ||| tnever) ^^^ (-1))) (nI y)) i = (decide (i < Wd) && bt (thouses &&& ((talways ||| tnever) ^^^ (-1))) (Wd * y + i)) := fun i hi => strip_b hW5 hy hi
  have sH : ∀ i, i < 32 → bt (xf_strip Wd thouses (nI y)) i = (decide (i < Wd) && bt thouses (Wd * y + i)) := fun i hi => strip_b hW5 hy hi
  have dis : ∀ j, j < 32 → bt talways j = true → bt (thouses &&& ((talways ||| tnever) ^^^ (-1))) j = false ∧ bt thouses j = true := fun j hj2 q => by
    refine ⟨?_, ?_⟩
    · rw [b_and, b_xor, b_m1 j hj2, b_or, q]; simp
    · rw [← hsub, b_and, Bool.and_eq_true] at q; exact q.2
  have frh : ∀ j, bt (thouses &&& ((talways ||| tnever) ^^^ (-1))) j = true → bt thouses j = true := fun j q => by
    rw [b_and, Bool.and_eq_true] at q; exact q.1
  generalize thouses &&& ((talways ||| tnever) ^^^ (-1)) = fr at *
  have hw : ∀ i, i < Wd → Wd * y + i < 32 := fun i hi => by omega
  have main : (xf_strip Wd talways (nI y) = mu &&& (xf_strip Wd fr (nI y) ^^^ (-1)) ∧ (∀ j, j < Wd → (!(bt fr (Wd * y + j)) || (bt mu j == rB uborn ustays umayor above own undr Wd tring j)) = true) ∧ mu &&& (xf_strip Wd thouses (nI y) ^^^ (-1)) = 0) ↔ T = mu := by
    constructor
    · rintro ⟨g1, g2, g3⟩
      refine b_ext (fun i hi => ?_)
      have e1 : bt (xf_strip Wd talways (nI y)) i = bt (mu &&& (xf_strip Wd fr (nI y) ^^^ (-1))) i := by rw [g1]
      rw [sA i hi, b_and, b_xor, b_m1 i hi, sF i hi] at e1
      rw [hT i hi, e1]
      by_cases c : i < Wd
      · rw [decide_eq_true c]
        have e2 := g2 i c
        cases f : bt fr (Wd * y + i)
        · cases bt mu i <;> rfl
        · rw [f] at e2
          cases m : bt mu i <;> cases r : rB uborn ustays umayor above own undr Wd tring i <;> rw [m, r] at e2 <;> first | rfl | cases e2
      · rw [decide_eq_false c]
        cases bt mu i <;> rfl
    · intro e
      subst e
      refine ⟨b_ext (fun i hi => ?_), fun i hi => ?_, b_ext (fun i hi => ?_)⟩
      · rw [sA i hi, b_and, b_xor, b_m1 i hi, sF i hi, hT i hi]
        by_cases c : i < Wd
        · rw [decide_eq_true c]
          cases q : bt talways (Wd * y + i)
          · cases bt fr (Wd * y + i) <;> cases rB uborn ustays umayor above own undr Wd tring i <;> rfl
          · rw [(dis _ (hw i c) q).1]; rfl
        · rw [decide_eq_false c]; rfl
      · rw [hT i (by omega), decide_eq_true hi]
        cases f : bt fr (Wd * y + i)
        · rfl
        · cases q : bt talways (Wd * y + i)
          · cases rB uborn ustays umayor above own undr Wd tring i <;> rfl
          · rw [(dis _ (hw i hi) q).1] at f; cases f
      · rw [b_and, b_xor, b_m1 i hi, sH i hi, hT i hi, b_0]
        by_cases c : i < Wd
        · rw [decide_eq_true c]
          cases q : bt talways (Wd * y + i)
          · cases f : bt fr (Wd * y + i)
            · rfl
            · rw [frh _ f]; cases rB uborn ustays umayor above own undr Wd tring i <;> rfl
          · rw [(dis _ (hw i c) q).2]; simp
        · rw [decide_eq_false c]; rfl
  by_cases g1 : xf_strip Wd talways (nI y) = mu &&& (xf_strip Wd fr (nI y) ^^^ (-1))
  · rw [if_pos g1]
    rcases hall with ⟨h1, h2⟩ | ⟨h1, h2⟩
    · rw [h2]
      by_cases g3 : mu &&& (xf_strip Wd thouses (nI y) ^^^ (-1)) = 0
      · rw [decide_eq_true (main.mp ⟨g1, h1, g3⟩)]
        show (if mu &&& (xf_strip Wd thouses (nI y) ^^^ (-1)) = 0 then true else false) = true
        rw [if_pos g3]
      · rw [decide_eq_false (fun q => g3 (main.mpr q).2.2)]
        show (if mu &&& (xf_strip Wd thouses (nI y) ^^^ (-1)) = 0 then true else false) = false
        rw [if_neg g3]
    · rw [h2, decide_eq_false (fun q => h1 (main.mpr q).2.1)]
      rfl
  · rw [if_neg g1, decide_eq_false (fun q => g1 (main.mpr q).1)]
/-- a row that can stand -/
theorem r_pat {row : Int32} {y : Nat} (h : pH a Wd R nr ulit umayor unight uoil uborn ustays useen thouses talways tnever tbeside) (hW5 : Wd ≤ 5) (hy : Wd * y + Wd ≤ 32) (hsub : talways &&& thouses = talways) (hst : thouses &&& (talways ||| tnever) = (talways ||| tnever)) : xf_isPattern Wd thouses talways tnever (nI y) row = mf_fitsRow a Wd row (nI y) := by
  have hbase : ∀ i, i < 32 → bt ((mf_rowOf Wd (a 3) (nI y)) &&& (mf_rowOf Wd (a 4) (nI y))) i = (decide (i < Wd) && bt talways (Wd * y + i)) := fun i hi => by
    rw [b_and, show mf_rowOf Wd (a 3) (nI y) = xf_strip Wd (a 3) (nI y) from rfl, show mf_rowOf Wd (a 4) (nI y) = xf_strip Wd (a 4) (nI y) from rfl, strip_b hW5 hy hi, strip_b hW5 hy hi, ← h.2.2.1, b_and]
    cases decide (i < Wd) <;> simp
  have s4 : ∀ i, i < 32 → bt (mf_rowOf Wd (a 4) (nI y)) i = (decide (i < Wd) && bt (talways ||| tnever) (Wd * y + i)) := fun i hi => by rw [← h.1.2.1]; exact strip_b hW5 hy hi
  have s2 : ∀ i, i < 32 → bt (mf_rowOf Wd (a 2) (nI y)) i = (decide (i < Wd) && bt thouses (Wd * y + i)) := fun i hi => by rw [← h.1.1]; exact strip_b hW5 hy hi
  have sA : ∀ i, i < 32 → bt (xf_strip Wd talways (nI y)) i = (decide (i < Wd) && bt talways (Wd * y + i)) := fun i hi => strip_b hW5 hy hi
  have sF : ∀ i, i < 32 → bt (xf_strip Wd (thouses &&& ((talways ||| tnever) ^^^ (-1))) (nI y)) i = (decide (i < Wd) && (bt thouses (Wd * y + i) && !(bt (talways ||| tnever) (Wd * y + i)))) := fun i hi => by
    rw [strip_b hW5 hy hi]
    by_cases c : i < Wd
    · rw [b_and, b_xor, b_m1 _ (by omega), Bool.xor_true]
    · rw [decide_eq_false c]; rfl
  have dA : ∀ j, bt talways j = true → bt (talways ||| tnever) j = true := fun j q => by rw [b_or, q]; rfl
  have dS : ∀ j, bt (talways ||| tnever) j = true → bt thouses j = true := fun j q => by rw [← hst, b_and, Bool.and_eq_true] at q; exact q.1
  unfold xf_isPattern mf_fitsRow
  generalize (mf_rowOf Wd (a 3) (nI y)) &&& (mf_rowOf Wd (a 4) (nI y)) = base at hbase ⊢
  generalize mf_rowOf Wd (a 4) (nI y) = r4 at s4 ⊢
  generalize mf_rowOf Wd (a 2) (nI y) = r2 at s2 ⊢
  have main : (row &&& ((xf_strip Wd (thouses &&& ((talways ||| tnever) ^^^ (-1))) (nI y)) ^^^ (-1))) = (xf_strip Wd talways (nI y)) ↔ (row &&& (r2 ^^^ (-1))) = 0 ∧ (row &&& r4) = base := by
    constructor
    · intro e
      have e1 : ∀ i, i < 32 → (bt row i && ((decide (i < Wd) && (bt thouses (Wd * y + i) && !(bt (talways ||| tnever) (Wd * y + i)))) ^^ true)) = (decide (i < Wd) && bt talways (Wd * y + i)) := fun i hi => by
        rw [← sF i hi, ← sA i hi, ← e, b_and, b_xor, b_m1 i hi]
      refine ⟨b_ext (fun i hi => ?_), b_ext (fun i hi => ?_)⟩
      · have q := e1 i hi
        rw [b_and, b_xor, b_m1 i hi, s2 i hi, b_0]
        by_cases c : i < Wd
        · rw [decide_eq_true c] at q ⊢
          have d1 := dA (Wd * y + i)
          have d2 := dS (Wd * y + i)
          revert q d1 d2
          cases bt row i <;> cases bt thouses (Wd * y + i) <;> cases bt (talways ||| tnever) (Wd * y + i) <;> cases bt talways (Wd * y + i) <;> simp
        · rw [decide_eq_false c] at q ⊢
          revert q
          cases bt row i <;> simp
      · have q := e1 i hi
        rw [b_and, s4 i hi, hbase i hi]
        by_cases c : i < Wd
        · rw [decide_eq_true c] at q ⊢
          have d1 := dA (Wd * y + i)
          have d2 := dS (Wd * y + i)
          revert q d1 d2
          cases bt row i <;> cases bt thouses (Wd * y + i) <;> cases bt (talways ||| tnever) (Wd * y + i) <;> cases bt talways (Wd * y + i) <;> simp
        · rw [decide_eq_false c]
          simp
    · rintro ⟨g1, g2⟩
      refine b_ext (fun i hi => ?_)
      have q1 : (bt row i && ((decide (i < Wd) && bt thouses (Wd * y + i)) ^^ true)) = false := by
        rw [← s2 i hi, ← b_m1 i hi, ← b_xor, ← b_and, g1, b_0]
      have q2 : (bt row i && (decide (i < Wd) && bt (talways ||| tnever) (Wd * y + i))) = (decide (i < Wd) && bt talways (Wd * y + i)) := by
        rw [← s4 i hi, ← hbase i hi, ← g2, b_and]
      rw [b_and, b_xor, b_m1 i hi, sF i hi, sA i hi]
      by_cases c : i < Wd
      · rw [decide_eq_true c] at q1 q2 ⊢
        have d1 := dA (Wd * y + i)
        have d2 := dS (Wd * y + i)
        revert q1 q2 d1 d2
        cases bt row i <;> cases bt thouses (Wd * y + i) <;> cases bt (talways ||| tnever) (Wd * y + i) <;> cases bt talways (Wd * y + i) <;> simp
      · rw [decide_eq_false c] at q1 q2 ⊢
        revert q1 q2
        cases bt row i <;> simp
  by_cases g : (row &&& ((xf_strip Wd (thouses &&& ((talways ||| tnever) ^^^ (-1))) (nI y)) ^^^ (-1))) = (xf_strip Wd talways (nI y))
  · rw [if_pos g, if_pos (main.mp g).1, if_pos (main.mp g).2]
  · rw [if_neg g]
    by_cases g1 : (row &&& (r2 ^^^ (-1))) = 0
    · rw [if_pos g1, if_neg (fun q => g (main.mpr ⟨g1, q⟩))]
    · rw [if_neg g1]
end R17
