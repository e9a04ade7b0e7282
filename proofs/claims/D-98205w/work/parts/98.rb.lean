/-! r11: a picture moved, walks, one heap -/
section R11
variable {a b th : Nat → Int32} {Wd R nr nc : Nat} {ulit umayor unight uoil : Int32} {uborn ustays useen : Nat → Int32} {thouses talways tnever : Int32} {tbeside tleast tmost : Nat → Int32}
/-- the rows of the system's loop against the one loop of the model -/
theorem mv_in {lit dx dy : Int32} {y : Nat} (hW0 : 1 ≤ Wd) (hW5 : Wd ≤ 5) (hR0 : 1 ≤ R) (hR6 : R ≤ 6) (hy : y < R) (acc0 : Int32) (d : (Nat × Int32) ⊕ Int32) (dm : (Nat × Int32) ⊕ Int32) : ∀ n x acc, Wd - x < n → x ≤ Wd → (∃ acc', zw (xf_moved_B21 Wd R lit dx dy (y, acc0)) d n (x, acc) = .inl (Wd, acc') ∧ zw (mf_moved_B6 Wd R lit dx dy) dm ((Wd * R - (Wd * y + x)) + 1) (Wd * y + x, acc) = zw (mf_moved_B6 Wd R lit dx dy) dm ((Wd * R - (Wd * (y + 1))) + 1) (Wd * (y + 1), acc')) ∨ (zw (xf_moved_B21 Wd R lit dx dy (y, acc0)) d n (x, acc) = .inr (-1) ∧ zw (mf_moved_B6 Wd R lit dx dy) dm ((Wd * R - (Wd * y + x)) + 1) (Wd * y + x, acc) = .inr (-1)) := by
  intro n
  induction n with
  | zero => intro x acc h _; exact absurd h (Nat.not_lt_zero _)
  | succ n ih =>
    intro x acc h hx
    by_cases c : Wd ≤ x
    · have e : x = Wd := Nat.le_antisymm hx c
      subst e
      refine Or.inl ⟨acc, zw_r (by unfold xf_moved_B21; rw [if_pos c]), ?_⟩
      rw [Nat.mul_succ]
    · have hlt : Wd * y + x < Wd * R := xCell_lt (by omega) hy
      have ef : (Wd * R - (Wd * y + x)) + 1 = ((Wd * R - (Wd * y + (x + 1))) + 1) + 1 := by omega
      have emod : (Wd * y + x) % Wd = x := by rw [Nat.add_comm, Nat.add_mul_mod_self_left]; exact Nat.mod_eq_of_lt (by omega)
      have ediv : (Wd * y + x) / Wd = y := by rw [Nat.add_comm, Nat.add_mul_div_left _ _ (by omega), Nat.div_eq_of_lt (by omega), Nat.zero_add]
      by_cases f : ((lit >>> ((nI (Wd * y + x)) &&& 31)) &&& 1) = 0
      · have e1 : xf_moved_B21 Wd R lit dx dy (y, acc0) (x, acc) = .inl (x + 1, acc) := by unfold xf_moved_B21; dsimp only; rw [if_neg c, pk_mul, nI_add, if_pos f]
        have e2 : mf_moved_B6 Wd R lit dx dy (Wd * y + x, acc) = .inl (Wd * y + (x + 1), acc) := by unfold mf_moved_B6; dsimp only; rw [if_neg (by omega), if_pos f]; rfl
        rw [zw_l e1, ef, zw_l e2]
        exact ih (x + 1) acc (by omega) (by omega)
      · by_cases g : xf_isPlace Wd R (nI x + dx) (nI y + dy) = true
        · have e1 : xf_moved_B21 Wd R lit dx dy (y, acc0) (x, acc) = .inl (x + 1, acc ||| ((1 : Int32) <<< ((nI Wd * (nI y + dy) + (nI x + dx)) &&& 31))) := by unfold xf_moved_B21; dsimp only; rw [if_neg c, pk_mul, nI_add, if_neg f, if_pos g]
          have e2 : mf_moved_B6 Wd R lit dx dy (Wd * y + x, acc) = .inl (Wd * y + (x + 1), acc ||| ((1 : Int32) <<< ((nI Wd * (nI y + dy) + (nI x + dx)) &&& 31))) := by unfold mf_moved_B6; dsimp only; rw [if_neg (by omega), if_neg f, emod, ediv, r_place hW0 hW5 hR0 hR6, if_pos g]; rfl
          rw [zw_l e1, ef, zw_l e2]
          exact ih (x + 1) _ (by omega) (by omega)
        · refine Or.inr ⟨zw_r (by unfold xf_moved_B21; dsimp only; rw [if_neg c, pk_mul, nI_add, if_neg f, if_neg g]), zw_r (by unfold mf_moved_B6; dsimp only; rw [if_neg (by omega), if_neg f, emod, ediv, r_place hW0 hW5 hR0 hR6, if_neg g])⟩
theorem mv_out {lit dx dy : Int32} (hW0 : 1 ≤ Wd) (hW5 : Wd ≤ 5) (hR0 : 1 ≤ R) (hR6 : R ≤ 6) (d : (Nat × Int32) ⊕ Int32) (dm : (Nat × Int32) ⊕ Int32) : ∀ n y acc, R - y < n → y ≤ R → (∃ acc', zw (xf_moved_B6 Wd R lit dx dy) d n (y, acc) = .inl (R, acc') ∧ zw (mf_moved_B6 Wd R lit dx dy) dm ((Wd * R - (Wd * y)) + 1) (Wd * y, acc) = .inl (Wd * R, acc')) ∨ (zw (xf_moved_B6 Wd R lit dx dy) d n (y, acc) = .inr (-1) ∧ zw (mf_moved_B6 Wd R lit dx dy) dm ((Wd * R - (Wd * y)) + 1) (Wd * y, acc) = .inr (-1)) := by
  intro n
  induction n with
  | zero => intro y acc h _; exact absurd h (Nat.not_lt_zero _)
  | succ n ih =>
    intro y acc h hy
    by_cases c : R ≤ y
    · have e : y = R := Nat.le_antisymm hy c
      subst e
      exact Or.inl ⟨acc, zw_r (by unfold xf_moved_B6; rw [if_pos c]), zw_r (by unfold mf_moved_B6; rw [if_pos (Nat.le_refl _)])⟩
    · have k := mv_in (lit := lit) (dx := dx) (dy := dy) hW0 hW5 hR0 hR6 (show y < R by omega) acc (.inl (0, acc)) dm ((Wd - 0) + 1) 0 acc (by omega) (by omega)
      simp only [Nat.add_zero] at k
      rcases k with ⟨acc', k1, k2⟩ | ⟨k1, k2⟩
      · have e1 : xf_moved_B6 Wd R lit dx dy (y, acc) = .inl (y + 1, acc') := by
          unfold xf_moved_B6 xf_moved_L21
          dsimp only
          rw [if_neg c, k1]
          rfl
        rw [zw_l e1, k2]
        exact ih (y + 1) acc' (by omega) (by omega)
      · refine Or.inr ⟨zw_r ?_, k2⟩
        unfold xf_moved_B6 xf_moved_L21
        dsimp only
        rw [if_neg c, k1]
        rfl
theorem r_moved {lit dx dy : Int32} (hW0 : 1 ≤ Wd) (hW5 : Wd ≤ 5) (hR0 : 1 ≤ R) (hR6 : R ≤ 6) : xf_moved Wd R lit dx dy = mf_moved Wd R lit dx dy := by
  unfold xf_moved mf_moved xf_moved_L6 mf_moved_L6
  rcases mv_out (lit := lit) (dx := dx) (dy := dy) hW0 hW5 hR0 hR6 (.inl (0, 0)) (.inl (0, 0)) ((R - 0) + 1) 0 0 (by omega) (by omega) with ⟨acc', k1, k2⟩ | ⟨k1, k2⟩
  · rw [Nat.mul_zero] at k2; rw [k1, k2]; rfl
  · rw [Nat.mul_zero] at k2; rw [k1, k2]
theorem rr_walks {what : Int32} (h : pH a Wd R nr ulit umayor unight uoil uborn ustays useen thouses talways tnever tbeside) (hW0 : 1 ≤ Wd) (hW5 : Wd ≤ 5) (hR0 : 1 ≤ R) (hR6 : R ≤ 6) : xf_walks ulit umayor uborn ustays Wd R thouses talways tnever tbeside what = ((mf_walks a b Wd R what).1, (mf_walks a b Wd R what).2.1) := by
  have e1 : xf_isIn what.toInt64 0 2 = true ↔ (¬ what < 0 ∧ ¬ 2 < what) := r_in2 (x := what) (N := 2) (by decide)
  have hN : ∀ pic, mf_becomes a (mf_laysNear a b Wd R) Wd R pic (a 10) = hf_next umayor uborn ustays Wd R thouses talways tnever tbeside pic := fun pic => r_next h
  have i1 : ∀ s y x, xf_walks_L84 ulit umayor uborn ustays Wd R thouses talways tnever tbeside what s y x = Sum.map id (fun r => (r.1, r.2.1)) (mf_walks_L77 a Wd R what (mf_laysNear a b Wd R) s y x) := fun s y x => by
    unfold xf_walks_L84 mf_walks_L77
    refine zw_map (f := mf_walks_B77 a Wd R what (mf_laysNear a b Wd R) s y) (g := xf_walks_B84 ulit umayor uborn ustays Wd R thouses talways tnever tbeside what s y) (d := .inl x) (d' := .inl x) (Sum.map id (fun r : Int32 × Int32 × (Nat → Int32) => (r.1, r.2.1))) rfl (fun k => ?_) _ _
    unfold xf_walks_B84 mf_walks_B77
    rw [hN, h.2.1, r_moved hW0 hW5 hR0 hR6]
    by_cases c : 4 < (nI k - 4)
    · rw [if_pos c, if_pos c]; rfl
    · rw [if_neg c, if_neg c]
      by_cases d : mf_moved Wd R ulit (nI k - 4) (nI y - 5) = hf_next umayor uborn ustays Wd R thouses talways tnever tbeside s.2
      · rw [if_pos d, if_pos d]
        by_cases e : what = 0
        · rw [if_pos e, if_pos e]; rfl
        · rw [if_neg e, if_neg e]
          by_cases f : what = 1
          · rw [if_pos f, if_pos f]; rfl
          · rw [if_neg f, if_neg f]; rfl
      · rw [if_neg d, if_neg d]; rfl
  have i2 : ∀ s y, xf_walks_L74 ulit umayor uborn ustays Wd R thouses talways tnever tbeside what s y = Sum.map id (fun r => (r.1, r.2.1)) (mf_walks_L67 a Wd R what (mf_laysNear a b Wd R) s y) := fun s y => by
    unfold xf_walks_L74 mf_walks_L67
    refine zw_map (f := mf_walks_B67 a Wd R what (mf_laysNear a b Wd R) s) (g := xf_walks_B74 ulit umayor uborn ustays Wd R thouses talways tnever tbeside what s) (d := .inl y) (d' := .inl y) (Sum.map id (fun r : Int32 × Int32 × (Nat → Int32) => (r.1, r.2.1))) rfl (fun k => ?_) _ _
    unfold xf_walks_B74 mf_walks_B67
    rw [i1]
    by_cases c : 5 < (nI k - 5)
    · rw [if_pos c, if_pos c]; rfl
    · rw [if_neg c, if_neg c]
      cases mf_walks_L77 a Wd R what (mf_laysNear a b Wd R) s k 0 with
      | inl t => rfl
      | inr r => rfl
  have i3 : ∀ s, xf_walks_L55 ulit umayor uborn ustays Wd R thouses talways tnever tbeside what s = Sum.map id (fun r => (r.1, r.2.1)) (mf_walks_L44 a Wd R what (mf_laysNear a b Wd R) s) := fun s => by
    unfold xf_walks_L55 mf_walks_L44
    refine zw_map (f := mf_walks_B44 a Wd R what (mf_laysNear a b Wd R)) (g := xf_walks_B55 ulit umayor uborn ustays Wd R thouses talways tnever tbeside what) (d := .inl s) (d' := .inl s) (Sum.map id (fun r : Int32 × Int32 × (Nat → Int32) => (r.1, r.2.1))) rfl (fun k => ?_) _ _
    unfold xf_walks_B55 mf_walks_B44
    rw [i2, hN]
    by_cases c : 60 < k.1
    · rw [if_pos c, if_pos c]; rfl
    · rw [if_neg c, if_neg c]
      cases mf_walks_L67 a Wd R what (mf_laysNear a b Wd R) k 0 with
      | inl t => rfl
      | inr r => rfl
  unfold xf_walks mf_walks zlet
  dsimp only
  by_cases d : what < 0
  · rw [if_pos d, if_neg (fun q => (e1.mp q).1 d)]
  · rw [if_neg d]
    by_cases e : what ≤ 2
    · rw [if_pos e, if_pos (e1.mpr ⟨d, Int32.not_lt.mpr e⟩), h.2.1]
      by_cases f : ulit = 0
      · rw [if_pos f, if_pos f]
      · rw [if_neg f, if_neg f, i3]
        cases mf_walks_L44 a Wd R what (mf_laysNear a b Wd R) (1, ulit) with
        | inl t =>
          show ((xf_answer (-1)).1, (xf_answer (-1)).2) = _
          rw [r_answer (Or.inl rfl)]
          rfl
        | inr r => rfl
    · rw [if_neg e, if_neg (fun q => (e1.mp q).2 (Int32.not_le.mp e))]
/-! one heap: the least closed set -/
def zSub (S T : Int32) : Prop := ∀ i, i < 32 → bt S i = true → bt T i = true
def zCl (nb : Nat → Int32) (L : Int32) (N : Nat) (S : Int32) : Prop := ∀ j, j < N → bt S j = true → zSub (nb j &&& L) S
theorem zSub_anti {S T : Int32} (h1 : zSub S T) (h2 : zSub T S) : S = T := b_ext (fun i hi => by
  cases e : bt S i
  · cases f : bt T i
    · rfl
    · rw [h2 i hi f] at e; cases e
  · rw [h1 i hi e])
theorem zSub_or {S T U : Int32} (h1 : zSub S U) (h2 : zSub T U) : zSub (S ||| T) U := fun i hi h => by
  rw [b_or, Bool.or_eq_true] at h
  exact h.elim (h1 i hi) (h2 i hi)
theorem zSub_l {S T : Int32} : zSub S (S ||| T) := fun i hi h => by rw [b_or, h]; rfl
theorem zSub_r {S T : Int32} : zSub T (S ||| T) := fun i hi h => by rw [b_or, h, Bool.or_true]
theorem zSub_rf {S : Int32} : zSub S S := fun _ _ h => h
theorem zSub_tr {S T U : Int32} (h1 : zSub S T) (h2 : zSub T U) : zSub S U := fun i hi h => h2 i hi (h1 i hi h)
theorem zSub_e {S T : Int32} (h : zSub S T) : S ||| T = T := zSub_anti (zSub_or h zSub_rf) zSub_r
theorem zSub_0 {S : Int32} : zSub 0 S := fun i _ h => by rw [b_0] at h; cases h
theorem t_bt {x : Int32} {k : Nat} (hk : k < 32) : ((x >>> (nI k &&& 31)) &&& 1) = 1 ↔ bt x k = true := by
  refine (i_tst1 x (nI k)).trans ⟨fun h => ?_, fun h q => ?_⟩
  · cases e : bt x k
    · exact absurd ((i_msk hk).mpr e) h
    · rfl
  · rw [(i_msk hk).mp q] at h; cases h
/-- one sweep over the houses -/
theorem sw_grow {N : Nat} {nb : Nat → Int32} {L s0 : Int32} {f : Nat → Int32 → Int32} {c : Int32 → Int32} (hf : ∀ k, k < N → ∀ s, f k s = if (((c s) >>> (nI k &&& 31)) &&& 1) = 1 then s ||| (nb k &&& L) else s) : ∀ n, n ≤ N → zSub s0 (zf f s0 n) ∧ ∀ j, j ≤ n → zSub (zf f s0 j) (zf f s0 n)
  | 0, _ => ⟨zSub_rf, fun j hj => by rw [Nat.le_zero.mp hj]; exact zSub_rf⟩
  | n + 1, hn => by
    obtain ⟨i1, i2⟩ := sw_grow hf n (by omega)
    have st : zSub (zf f s0 n) (zf f s0 (n + 1)) := by
      show zSub (zf f s0 n) (f n (zf f s0 n))
      rw [hf n (by omega)]
      split
      · exact zSub_l
      · exact zSub_rf
    refine ⟨zSub_tr i1 st, fun j hj => ?_⟩
    by_cases e : j = n + 1
    · rw [e]; exact zSub_rf
    · exact zSub_tr (i2 j (by omega)) st
theorem sw_min {N : Nat} (hN : N ≤ 32) {nb : Nat → Int32} {L s0 T : Int32} {f : Nat → Int32 → Int32} {c : Int32 → Int32} (hf : ∀ k, k < N → ∀ s, f k s = if (((c s) >>> (nI k &&& 31)) &&& 1) = 1 then s ||| (nb k &&& L) else s) (hc : ∀ s, zSub s0 s → zSub (c s) s) (hT : zCl nb L N T) (h0 : zSub s0 T) : ∀ n, n ≤ N → zSub (zf f s0 n) T
  | 0, _ => h0
  | n + 1, hn => by
    have i1 := sw_min hN hf hc hT h0 n (by omega)
    show zSub (f n (zf f s0 n)) T
    rw [hf n (by omega)]
    split
    · next e =>
      refine zSub_or i1 (hT n (by omega) ?_)
      exact i1 n (by omega) (hc _ (sw_grow hf n (by omega)).1 n (by omega) ((t_bt (by omega)).mp e))
    · exact i1
theorem sw_stop {N : Nat} (hN : N ≤ 32) {nb : Nat → Int32} {L s0 : Int32} {f : Nat → Int32 → Int32} {c : Int32 → Int32} (hf : ∀ k, k < N → ∀ s, f k s = if (((c s) >>> (nI k &&& 31)) &&& 1) = 1 then s ||| (nb k &&& L) else s) (hc : c s0 = s0) (h : zf f s0 N = s0) : zCl nb L N s0 := by
  intro j hj hb
  have e1 : ∀ n, n ≤ N → zf f s0 n = s0 := fun n hn => zSub_anti (by have q9 : zSub (zf f s0 n) (zf f s0 N) := (sw_grow hf N (Nat.le_refl _)).2 n hn; rw [h] at q9; exact q9) (sw_grow hf n hn).1
  have e2 : zf f s0 (j + 1) = f j (zf f s0 j) := rfl
  rw [e1 (j + 1) (by omega), e1 j (by omega), hf j hj, hc, if_pos ((t_bt (by omega)).mpr hb)] at e2
  rw [e2]
  exact fun i hi q => zSub_r i hi q
theorem zw_mu {σ ρ : Type} {f : σ → σ ⊕ ρ} {d : ρ} (I : σ → Prop) (P : ρ → Prop) (μ : σ → Nat) (h1 : ∀ s s', I s → f s = .inl s' → I s' ∧ μ s' < μ s) (h2 : ∀ s r, I s → f s = .inr r → P r) : ∀ n s, μ s < n → I s → P (zw f d n s)
  | 0, s, h, _ => absurd h (Nat.not_lt_zero _)
  | n + 1, s, h, hI => by
    cases e : f s with
    | inl s' =>
      rw [zw_l e]
      obtain ⟨a1, a2⟩ := h1 s s' hI e
      exact zw_mu I P μ h1 h2 n s' (by omega) a1
    | inr r => rw [zw_r e]; exact h2 s r hI e
/-- what a heap is -/
def zHp (nb : Nat → Int32) (L : Int32) (N : Nat) (s0 H : Int32) : Prop := zSub s0 H ∧ zCl nb L N H ∧ ∀ T, zCl nb L N T → zSub s0 T → zSub H T
theorem zHp_u {nb : Nat → Int32} {L s0 H H' : Int32} {N : Nat} (h1 : zHp nb L N s0 H) (h2 : zHp nb L N s0 H') : H = H' := zSub_anti (h1.2.2 H' h2.2.1 h2.1) (h2.2.2 H h1.2.1 h1.1)
theorem zCl_0 {nb : Nat → Int32} {L : Int32} {N : Nat} : zCl nb L N 0 := fun j _ h => by rw [b_0] at h; cases h
theorem m_hp {k : Nat} {nb : Nat → Int32} (h30 : Wd * R ≤ 30) : zHp nb (a 3) (Wd * R) ((a 3) &&& ((1 : Int32) <<< (nI k &&& 31))) (mf_heapOf a nb Wd R k) := by
  have hf : ∀ j, j < Wd * R → ∀ s, mf_heapOf_B23 a nb Wd R j s = if (((id s) >>> (nI j &&& 31)) &&& 1) = 1 then s ||| (nb j &&& a 3) else s := fun j _ s => rfl
  unfold mf_heapOf zlet mf_heapOf_L13
  generalize hs0 : (a 3) &&& ((1 : Int32) <<< (nI k &&& 31)) = s0
  have key := zw_mu (f := mf_heapOf_B13 a nb Wd R k) (d := (0, s0)) (I := fun s => (s.1 = 0 ∨ s.2 = zf (mf_heapOf_B23 a nb Wd R) s.1 (Wd * R)) ∧ zSub s0 s.2 ∧ ∀ T, zCl nb (a 3) (Wd * R) T → zSub s0 T → zSub s.2 T) (P := fun r => zHp nb (a 3) (Wd * R) s0 r.2) (μ := fun s => 32 - zpc s.2 + (if s.2 = s.1 then 0 else 1)) (fun s s' hI e => by
      unfold mf_heapOf_B13 zlet mf_heapOf_L23 at e
      by_cases c : s.2 = s.1
      · rw [if_pos c] at e; cases e
      · rw [if_neg c] at e
        cases e
        have g := (sw_grow (s0 := s.2) hf (Wd * R) (Nat.le_refl _)).1
        exact ⟨⟨Or.inr rfl, zSub_tr hI.2.1 g, fun T h1 h2 => sw_min (by omega) hf (fun _ _ => zSub_rf) h1 (hI.2.2 T h1 h2) _ (Nat.le_refl _)⟩, heapOf_mu (Nat.lt_succ_self _) c (zSub_e g)⟩) (fun s r hI e => by
      unfold mf_heapOf_B13 at e
      by_cases c : s.2 = s.1
      · rw [if_pos c] at e
        cases e
        refine ⟨hI.2.1, ?_, hI.2.2⟩
        rcases hI.1 with q | q
        · show zCl nb (a 3) (Wd * R) s.2
          rw [c, q]; exact zCl_0
        · show zCl nb (a 3) (Wd * R) s.2
          rw [c] at q ⊢
          exact sw_stop (by omega) hf rfl q.symm
      · rw [if_neg c] at e; cases e) ((32 - zpc s0 + (if s0 = 0 then 0 else 1)) + 1) (0, s0) (Nat.lt_succ_self _) ⟨Or.inl rfl, zSub_rf, fun _ _ h => h⟩
  exact key
theorem x_hp {kk : Int32} (h30 : Wd * R ≤ 30) : zHp tbeside ulit (Wd * R) ((1 : Int32) <<< (kk &&& 31)) (xf_heapOf ulit Wd R tbeside kk) := by
  unfold xf_heapOf zlet xf_heapOf_L6
  generalize hs0 : (1 : Int32) <<< (kk &&& 31) = s0
  have key := zw_mu (f := xf_heapOf_B6 ulit Wd R tbeside kk) (d := (s0, 0)) (I := fun s => (s.2 = 0 ∨ s.1 = zf (xf_heapOf_B16 ulit Wd R tbeside (s.2, 0)) s.2 (Wd * R)) ∧ zSub s0 s.1 ∧ ∀ T, zCl tbeside ulit (Wd * R) T → zSub s0 T → zSub s.1 T) (P := fun r => zHp tbeside ulit (Wd * R) s0 r.2) (μ := fun s => 32 - zpc s.1 + (if s.1 = s.2 then 0 else 1)) (fun s s' hI e => by
      have hf : ∀ j, j < Wd * R → ∀ z, xf_heapOf_B16 ulit Wd R tbeside s j z = if ((((fun _ => s.1) z) >>> (nI j &&& 31)) &&& 1) = 1 then z ||| (tbeside j &&& ulit) else z := fun j _ z => rfl
      unfold xf_heapOf_B6 zlet xf_heapOf_L16 at e
      by_cases c : s.1 = s.2
      · rw [if_pos c] at e; cases e
      · rw [if_neg c] at e
        cases e
        have g := (sw_grow (s0 := s.1) hf (Wd * R) (Nat.le_refl _)).1
        exact ⟨⟨Or.inr rfl, zSub_tr hI.2.1 g, fun T h1 h2 => sw_min (by omega) hf (fun _ q => q) h1 (hI.2.2 T h1 h2) _ (Nat.le_refl _)⟩, heapOf_mu (Nat.lt_succ_self _) c (zSub_e g)⟩) (fun s r hI e => by
      have hf : ∀ j, j < Wd * R → ∀ z, xf_heapOf_B16 ulit Wd R tbeside (s.2, 0) j z = if ((((fun _ => s.2) z) >>> (nI j &&& 31)) &&& 1) = 1 then z ||| (tbeside j &&& ulit) else z := fun j _ z => rfl
      unfold xf_heapOf_B6 at e
      by_cases c : s.1 = s.2
      · rw [if_pos c] at e
        cases e
        have hI2 := hI.2
        rw [c] at hI2
        refine ⟨hI2.1, ?_, hI2.2⟩
        rcases hI.1 with q | q
        · show zCl tbeside ulit (Wd * R) s.2
          rw [q]; exact zCl_0
        · show zCl tbeside ulit (Wd * R) s.2
          rw [c] at q
          exact sw_stop (by omega) hf rfl q.symm
      · rw [if_neg c] at e; cases e) ((32 - zpc s0 + (if s0 = 0 then 0 else 1)) + 1) (s0, 0) (Nat.lt_succ_self _) ⟨Or.inl rfl, zSub_rf, fun _ _ h => h⟩
  exact key
theorem zHp_nb {nb nb' : Nat → Int32} {L s0 H : Int32} {N : Nat} (hn : ∀ k, k < N → nb k = nb' k) (h : zHp nb L N s0 H) : zHp nb' L N s0 H := ⟨h.1, fun j hj q => by rw [← hn j hj]; exact h.2.1 j hj q, fun T hT => h.2.2 T (fun j hj q => by rw [hn j hj]; exact hT j hj q)⟩
theorem r_heapOf {k : Nat} (h : pH a Wd R nr ulit umayor unight uoil uborn ustays useen thouses talways tnever tbeside) (h30 : Wd * R ≤ 30) (hk : k < Wd * R) : mf_heapOf a (mf_laysNear a b Wd R) Wd R k = if bt ulit k = true then xf_heapOf ulit Wd R tbeside (nI k) else 0 := by
  have m := zHp_nb (fun j hj => r_lay (b := b) h.1 hj) (m_hp (a := a) (k := k) (nb := mf_laysNear a b Wd R) h30)
  rw [h.2.1] at m
  by_cases c : bt ulit k = true
  · rw [if_pos c]
    have e : ulit &&& ((1 : Int32) <<< (nI k &&& 31)) = (1 : Int32) <<< (nI k &&& 31) := b_ext (fun i hi => by
      rw [b_and, bt_s (by omega) hi]
      by_cases q : i = k
      · subst q; rw [c]; rfl
      · rw [decide_eq_false q, Bool.and_false])
    rw [e] at m
    exact zHp_u m (x_hp h30)
  · rw [if_neg c]
    have e : ulit &&& ((1 : Int32) <<< (nI k &&& 31)) = 0 := (i_msk (by omega)).mpr (Bool.eq_false_iff.mpr c)
    rw [e] at m
    exact zSub_anti (m.2.2 0 zCl_0 zSub_0) zSub_0
theorem whyNo_0 {x y : Int32} (hW0 : 1 ≤ Wd) (hW5 : Wd ≤ 5) (hR0 : 1 ≤ R) (hR6 : R ≤ 6) (h : xf_whyNoHouse Wd R thouses x y ≤ 0) : xf_whyNoHouse Wd R thouses x y = 0 ∧ (¬ x < 0 ∧ x.toNatClampNeg < Wd) ∧ ¬ y < 0 ∧ y.toNatClampNeg < R := by
  have e1 := r_in1 (x := x) (N := Wd) (by omega) (by omega)
  have e2 := r_in1 (x := y) (N := R) (by omega) (by omega)
  unfold xf_whyNoHouse at h ⊢
  by_cases c : xf_isPlace Wd R x y = true
  · rw [if_pos c] at h ⊢
    have hp : (¬ x < 0 ∧ x.toNatClampNeg < Wd) ∧ ¬ y < 0 ∧ y.toNatClampNeg < R := by
      unfold xf_isPlace at c
      by_cases p : xf_isIn x.toInt64 0 (((nI Wd) - 1).toInt64) = true
      · rw [if_pos p] at c
        by_cases q : xf_isIn y.toInt64 0 (((nI R) - 1).toInt64) = true
        · exact ⟨⟨(e1.mp p).1, z_nge Wd (by omega) (e1.mp p).1 (e1.mp p).2⟩, (e2.mp q).1, z_nge R (by omega) (e2.mp q).1 (e2.mp q).2⟩
        · rw [if_neg q] at c; cases c
      · rw [if_neg p] at c; cases c
    by_cases d : tf_isHouse thouses (nI Wd * y + x) = true
    · rw [if_pos d]; exact ⟨rfl, hp⟩
    · rw [if_neg d] at h; exact absurd h (by decide)
  · rw [if_neg c] at h; exact absurd h (by decide)
theorem rr_heap {x y : Int32} (h : pH a Wd R nr ulit umayor unight uoil uborn ustays useen thouses talways tnever tbeside) (hW0 : 1 ≤ Wd) (hW5 : Wd ≤ 5) (hR0 : 1 ≤ R) (hR6 : R ≤ 6) (h30 : Wd * R ≤ 30) : (xf_heap ulit Wd R thouses tbeside x y).1 = (mf_heap a b Wd R x y).1 ∧ (xf_heap ulit Wd R thouses tbeside x y).2 = (mf_heap a b Wd R x y).2.1 := by
  unfold xf_heap mf_heap zlet
  rw [r_wrongHouse h.1 hW0 hW5 hR0 hR6]
  by_cases c : xf_whyNoHouse Wd R thouses x y ≤ 0
  · rw [if_pos c, if_pos c]
    obtain ⟨w0, ⟨x0, x1⟩, y0, y1⟩ := whyNo_0 hW0 hW5 hR0 hR6 c
    have hk : Wd * y.toNatClampNeg + x.toNatClampNeg < Wd * R := xCell_lt x1 y1
    dsimp only
    rw [w0, r_heapOf h h30 hk, xCell x0 y0]
    by_cases d : bt ulit (Wd * y.toNatClampNeg + x.toNatClampNeg) = true
    · rw [if_pos d, if_neg (fun q => by have := (t_bt (show Wd * y.toNatClampNeg + x.toNatClampNeg < 32 by omega)).mpr d; rw [q] at this; exact absurd this (by decide))]
      exact ⟨rfl, rfl⟩
    · rw [if_neg d, if_pos ((z_b01 _).resolve_right (fun q => d ((t_bt (by omega)).mp q)))]
      exact ⟨by rw [zpc_0]; rfl, rfl⟩
  · rw [if_neg c, if_neg c]; exact ⟨rfl, rfl⟩
end R11
