/-! r9: the plain laws of vote, votes, elect -/
theorem zf_congrP {σ : Type} {f g : Nat → σ → σ} {s0 : σ} (P : σ → Prop) (h0 : P s0) : ∀ N, (∀ k, k < N → ∀ s, P s → f k s = g k s ∧ P (g k s)) → zf f s0 N = zf g s0 N ∧ P (zf g s0 N) := by
  intro N
  induction N with
  | zero => exact fun _ => ⟨rfl, h0⟩
  | succ n ih =>
    intro h
    obtain ⟨i1, i2⟩ := ih (fun k hk s hs => h k (by omega) s hs)
    obtain ⟨j1, j2⟩ := h n (by omega) _ i2
    show f n (zf f s0 n) = g n (zf g s0 n) ∧ P (g n (zf g s0 n))
    rw [i1]
    exact ⟨j1, j2⟩
theorem zf_rel {σ τ : Type} {f : Nat → σ → σ} {g : Nat → τ → τ} {s0 : σ} {t0 : τ} (P : σ → τ → Prop) (h0 : P s0 t0) : ∀ N, (∀ k, k < N → ∀ s t, P s t → P (f k s) (g k t)) → P (zf f s0 N) (zf g t0 N) := by
  intro N
  induction N with
  | zero => exact fun _ => h0
  | succ n ih => exact fun h => h n (by omega) _ _ (ih (fun k hk s t hs => h k (by omega) s t hs))
theorem i_subI {x y : Nat} (hx : x < 2 ^ 30) (hy : y < 2 ^ 30) : (nI x - nI y).toInt = (x : Int) - y := by
  rw [Int32.toInt_sub, nI_toInt (by omega), nI_toInt (by omega)]
  exact Int.bmod_eq_of_le (by omega) (by omega)
theorem i_outL {l k m : Nat} (h1 : l ≤ k) (h2 : k ≤ 30) (h3 : m ≤ 32) : zmax 0 (zmax (nI l - nI m) (nI m - nI k)) = if nI l ≤ nI m then (if nI m ≤ nI k then 0 else nI m - nI k) else nI l - nI m := by
  have A := i_subI (x := l) (y := m) (by omega) (by omega)
  have B := i_subI (x := m) (y := k) (by omega) (by omega)
  have Z : (0 : Int32).toInt = 0 := rfl
  unfold zmax
  by_cases c1 : l ≤ m
  · rw [if_pos ((nI_leI (by omega) (by omega)).mpr c1)]
    by_cases c2 : m ≤ k
    · rw [if_pos ((nI_leI (by omega) (by omega)).mpr c2)]
      have hz : ¬ (0 : Int32) < (if (nI l - nI m) < (nI m - nI k) then nI m - nI k else nI l - nI m) := by
        intro q
        rw [Int32.lt_iff_toInt_lt, Z] at q
        split at q
        · rw [B] at q; omega
        · rw [A] at q; omega
      rw [if_neg hz]
    · rw [if_neg (fun q => c2 ((nI_leI (by omega) (by omega)).mp q))]
      have h4 : (nI l - nI m) < (nI m - nI k) := by rw [Int32.lt_iff_toInt_lt, A, B]; omega
      rw [if_pos h4]
      have h5 : (0 : Int32) < nI m - nI k := by rw [Int32.lt_iff_toInt_lt, Z, B]; omega
      rw [if_pos h5]
  · rw [if_neg (fun q => c1 ((nI_leI (by omega) (by omega)).mp q))]
    have h4 : ¬ (nI l - nI m) < (nI m - nI k) := by rw [Int32.lt_iff_toInt_lt, A, B]; omega
    rw [if_neg h4]
    have h5 : (0 : Int32) < nI l - nI m := by rw [Int32.lt_iff_toInt_lt, Z, A]; omega
    rw [if_pos h5]
section R9
variable {a b : Nat → Int32} {Wd R nr nc : Nat} {ulit umayor unight uoil : Int32} {uborn ustays useen : Nat → Int32} {thouses talways tnever : Int32} {tbeside tleast tmost : Nat → Int32}
/-- what citizens like: from a number to a number, 30 at most -/
def pLk (nc : Nat) (tleast tmost : Nat → Int32) : Prop := ∀ k, k < nc → ∃ l m : Nat, tleast k = nI l ∧ tmost k = nI m ∧ l ≤ m ∧ m ≤ 30
theorem r_out {ci m : Nat} (hC : pC a nc tleast tmost) (hL : pLk nc tleast tmost) (hci : ci < nc) (hm : m ≤ 32) : hf_outside tleast tmost ci m = mf_dislikes a ci m := by
  obtain ⟨l, k, e1, e2, h1, h2⟩ := hL ci hci
  obtain ⟨u1, u2⟩ := hC.2 ci hci
  unfold hf_outside mf_dislikes
  rw [u1, u2, e1, e2]
  exact i_outL h1 h2 hm
theorem r_voteOf {ci : Nat} (h : pH a Wd R nr ulit umayor unight uoil uborn ustays useen thouses talways tnever tbeside) (hC : pC a nc tleast tmost) (hL : pLk nc tleast tmost) (hci : ci < nc) : (mf_voteOf a b Wd R nr ci).1 = hf_vote ulit uborn ustays Wd R thouses talways tnever nr tbeside tleast tmost ci ∧ (hf_vote ulit uborn ustays Wd R thouses talways tnever nr tbeside tleast tmost ci = -1 ∨ ¬ hf_vote ulit uborn ustays Wd R thouses talways tnever nr tbeside tleast tmost ci < 0) := by
  have hr := h.2.2.2.2.2.2.2.1
  have key := zf_congrP (f := mf_voteOf_B11 a Wd R nr ci (mf_laysNear a b Wd R)) (g := hf_vote_B7 ulit uborn ustays Wd R thouses talways tnever nr tbeside tleast tmost ci) (s0 := ((0 : Int32), (-1 : Int32))) (fun s => s.2 = -1 ∨ ¬ s.2 < 0) (Or.inl rfl) nr (fun k hk s hs => by
    have hnk : ¬ nI k < 0 := nI_pos (by omega)
    have e1 : mf_becomes a (mf_laysNear a b Wd R) Wd R (a 3) (nI k) = hf_nextBy uborn ustays Wd R thouses talways tnever tbeside (nI k) ulit := by
      rw [h.2.1]
      exact r_nextBy h.1 h.2.2.1 hr h.2.2.2.2.2.2.2.2.1 (Or.inr ⟨hnk, by rw [nI_clamp (by omega)]; exact hk⟩)
    have e2 := r_out (a := a) (m := zpc (hf_nextBy uborn ustays Wd R thouses talways tnever tbeside (nI k) ulit)) hC hL hci (zpc_le _)
    have e3 : s.2 = -1 ↔ s.2 < 0 := ⟨fun q => by rw [q]; decide, fun q => hs.resolve_right (fun z => z q)⟩
    unfold mf_voteOf_B11 hf_vote_B7
    rw [e1, ← e2]
    by_cases c : s.2 = -1
    · rw [if_pos c, if_pos (e3.mp c)]; exact ⟨rfl, Or.inr hnk⟩
    · rw [if_neg c, if_neg (fun q => c (e3.mpr q))]
      split
      · exact ⟨rfl, Or.inr hnk⟩
      · exact ⟨rfl, hs⟩)
  refine ⟨?_, key.2⟩
  show (zf (mf_voteOf_B11 a Wd R nr ci (mf_laysNear a b Wd R)) (0, -1) nr).2 = (zf (hf_vote_B7 ulit uborn ustays Wd R thouses talways tnever nr tbeside tleast tmost ci) (0, -1) nr).2
  rw [key.1]
theorem r_answer {v : Int32} (hv : v = -1 ∨ ¬ v < 0) : xf_answer v = mf_orNone v := by
  unfold xf_answer mf_orNone
  rcases hv with q | q
  · subst q; rw [if_neg (show ¬ (0 : Int32) ≤ -1 by decide), if_pos rfl]
  · first
      | (rw [if_neg q, if_neg (fun z : v = -1 => q (by rw [z]; decide))])
      | (rw [if_pos (Int32.not_lt.mp q), if_neg (fun z : v = -1 => q (by rw [z]; decide))])
      | (have z : ¬ v = -1 := fun z => q (by rw [z]; decide)
         simp [q, z])
theorem rr_vote {ci : Int32} (h : pH a Wd R nr ulit umayor unight uoil uborn ustays useen thouses talways tnever tbeside) (hC : pC a nc tleast tmost) (hL : pLk nc tleast tmost) : (xf_vote ulit uborn ustays Wd R thouses talways tnever nr nc tbeside tleast tmost ci).1 = (mf_vote a b Wd R nr nc ci).1 ∧ (xf_vote ulit uborn ustays Wd R thouses talways tnever nr nc tbeside tleast tmost ci).2 = (mf_vote a b Wd R nr nc ci).2.1 := by
  unfold xf_vote mf_vote zlet
  rw [r_citA hC.1]
  by_cases c : xf_isCitizen nc ci = true
  · rw [if_pos c, if_pos c]
    obtain ⟨e1, e2⟩ := r_voteOf (b := b) h hC hL (r_isCit_t hC.1 c).2
    dsimp only
    rw [e1, ← r_answer e2]
    exact ⟨rfl, rfl⟩
  · rw [if_neg c, if_neg c]; exact ⟨rfl, rfl⟩
theorem r_votesFor {ru : Int32} (b : Nat → Int32) (h : pH a Wd R nr ulit umayor unight uoil uborn ustays useen thouses talways tnever tbeside) (hC : pC a nc tleast tmost) (hL : pLk nc tleast tmost) : (mf_votesFor a b Wd R nr nc ru).1 = hf_votes ulit uborn ustays Wd R thouses talways tnever nr nc tbeside tleast tmost ru := by
  show (zf (mf_votesFor_B4 a Wd R nr nc ru) (0, b) nc).1 = zf (hf_votes_B4 ulit uborn ustays Wd R thouses talways tnever nr nc tbeside tleast tmost ru) 0 nc
  refine zf_rel (fun (s : _ × (Nat → Int32)) t => s.1 = t) rfl nc (fun k hk s t hst => ?_)
  subst hst
  unfold mf_votesFor_B4 hf_votes_B4 zlet
  dsimp only
  rw [(r_voteOf (b := s.2) h hC hL hk).1]
  split <;> rfl
theorem rr_votes {ru : Int32} (h : pH a Wd R nr ulit umayor unight uoil uborn ustays useen thouses talways tnever tbeside) (hC : pC a nc tleast tmost) (hL : pLk nc tleast tmost) : (xf_votes ulit uborn ustays Wd R thouses talways tnever nr nc tbeside tleast tmost ru).1 = (mf_votes a b Wd R nr nc ru).1 ∧ (xf_votes ulit uborn ustays Wd R thouses talways tnever nr nc tbeside tleast tmost ru).2 = (mf_votes a b Wd R nr nc ru).2.1 := by
  unfold xf_votes mf_votes zlet
  rw [r_ruleA h.2.2.2.2.2.2.2.1]
  by_cases c : xf_isRule nr ru = true
  · rw [if_pos c, if_pos c, r_votesFor b h hC hL]; exact ⟨rfl, rfl⟩
  · rw [if_neg c, if_neg c]; exact ⟨rfl, rfl⟩
theorem r_elects (b : Nat → Int32) (h : pH a Wd R nr ulit umayor unight uoil uborn ustays useen thouses talways tnever tbeside) (hC : pC a nc tleast tmost) (hL : pLk nc tleast tmost) : (mf_elects a b Wd R nr nc).1 = (hf_elects ulit umayor uborn ustays Wd R thouses talways tnever nr nc tbeside tleast tmost).1 ∧ ((mf_elects a b Wd R nr nc).1 = false ∧ (mf_elects a b Wd R nr nc).2.1 = a ∧ (hf_elects ulit umayor uborn ustays Wd R thouses talways tnever nr nc tbeside tleast tmost).2 = umayor ∨ ∃ k, k < nr ∧ (mf_elects a b Wd R nr nc).2.1 = upd a 10 (nI k) ∧ (hf_elects ulit umayor uborn ustays Wd R thouses talways tnever nr nc tbeside tleast tmost).2 = nI k ∧ (mf_elects a b Wd R nr nc).1 = true) := by
  unfold mf_elects hf_elects zlet
  by_cases c : nr = 0
  · rw [if_pos c, if_pos c]; exact ⟨rfl, Or.inl ⟨rfl, rfl, rfl⟩⟩
  · rw [if_neg c, if_neg c]
    by_cases d : nc = 0
    · rw [if_pos d, if_pos d]; exact ⟨rfl, Or.inl ⟨rfl, rfl, rfl⟩⟩
    · rw [if_neg d, if_neg d]
      have key : ∀ (d0 : Nat × Nat × (Nat → Int32)), d0.2.1 = 0 → ∀ n k best (b : Nat → Int32), best < nr → (zw (mf_elects_B25 a Wd R nr nc) d0 n (k, best, b)).2.1 = (zw (hf_elects_B26 ulit uborn ustays Wd R thouses talways tnever nr nc tbeside tleast tmost) (1, 0) n (k, best)).2 ∧ (zw (hf_elects_B26 ulit uborn ustays Wd R thouses talways tnever nr nc tbeside tleast tmost) (1, 0) n (k, best)).2 < nr := by
        intro d0 hd0 n
        induction n with
        | zero => exact fun k best b _ => ⟨hd0, by show 0 < nr; omega⟩
        | succ n ih =>
          intro k best b hb
          by_cases q : nr ≤ k
          · rw [zw_r (show mf_elects_B25 a Wd R nr nc (k, best, b) = .inr (k, best, b) by unfold mf_elects_B25; rw [if_pos q]), zw_r (show hf_elects_B26 ulit uborn ustays Wd R thouses talways tnever nr nc tbeside tleast tmost (k, best) = .inr (k, best) by unfold hf_elects_B26; rw [if_pos q])]
            exact ⟨rfl, hb⟩
          · by_cases f : hf_votes ulit uborn ustays Wd R thouses talways tnever nr nc tbeside tleast tmost (nI k) ≤ hf_votes ulit uborn ustays Wd R thouses talways tnever nr nc tbeside tleast tmost (nI best)
            · rw [zw_l (show mf_elects_B25 a Wd R nr nc (k, best, b) = .inl (k + 1, best, (mf_votesFor a (mf_votesFor a b Wd R nr nc (nI k)).2 Wd R nr nc (nI best)).2) by unfold mf_elects_B25 zlet; rw [if_neg q]; dsimp only; rw [if_pos (by rw [r_votesFor _ h hC hL, r_votesFor _ h hC hL]; exact f)]), zw_l (show hf_elects_B26 ulit uborn ustays Wd R thouses talways tnever nr nc tbeside tleast tmost (k, best) = .inl (k + 1, best) by unfold hf_elects_B26; rw [if_neg q, if_pos f])]
              exact ih (k + 1) best _ hb
            · rw [zw_l (show mf_elects_B25 a Wd R nr nc (k, best, b) = .inl (k + 1, k, (mf_votesFor a (mf_votesFor a b Wd R nr nc (nI k)).2 Wd R nr nc (nI best)).2) by unfold mf_elects_B25 zlet; rw [if_neg q]; dsimp only; rw [if_neg (by rw [r_votesFor _ h hC hL, r_votesFor _ h hC hL]; exact f)]), zw_l (show hf_elects_B26 ulit uborn ustays Wd R thouses talways tnever nr nc tbeside tleast tmost (k, best) = .inl (k + 1, k) by unfold hf_elects_B26; rw [if_neg q, if_neg f])]
              exact ih (k + 1) k _ (by omega)
      obtain ⟨e1, e2⟩ := key (1, 0, b) rfl ((nr - 1) + 1) 1 0 b (by omega)
      refine ⟨rfl, Or.inr ⟨(zw (hf_elects_B26 ulit uborn ustays Wd R thouses talways tnever nr nc tbeside tleast tmost) (1, 0) ((nr - 1) + 1) (1, 0)).2, e2, ?_, rfl, rfl⟩⟩
      show upd a 10 (nI (zw (mf_elects_B25 a Wd R nr nc) (1, 0, b) ((nr - 1) + 1) (1, 0, b)).2.1) = _
      rw [e1]
theorem pH_10 {x : Int32} (h : pH a Wd R nr ulit umayor unight uoil uborn ustays useen thouses talways tnever tbeside) : a 10 = umayor := h.2.2.2.2.2.1
theorem rr_elect (b : Nat → Int32) (h : pH a Wd R nr ulit umayor unight uoil uborn ustays useen thouses talways tnever tbeside) (hC : pC a nc tleast tmost) (hL : pLk nc tleast tmost) : (xf_elect ulit umayor uborn ustays Wd R thouses talways tnever nr nc tbeside tleast tmost).1 = (mf_elect a b Wd R nr nc).1 ∧ (xf_elect ulit umayor uborn ustays Wd R thouses talways tnever nr nc tbeside tleast tmost).2.1 = (mf_elect a b Wd R nr nc).2.1 ∧ pH (mf_elect a b Wd R nr nc).2.2.1 Wd R nr ulit (xf_elect ulit umayor uborn ustays Wd R thouses talways tnever nr nc tbeside tleast tmost).2.2 unight uoil uborn ustays useen thouses talways tnever tbeside ∧ ∀ j, ¬ j = 10 → (mf_elect a b Wd R nr nc).2.2.1 j = a j := by
  obtain ⟨e1, e2⟩ := r_elects b h hC hL
  have hr := h.2.2.2.2.2.2.2.1
  unfold xf_elect mf_elect zlet
  generalize hf_elects ulit umayor uborn ustays Wd R thouses talways tnever nr nc tbeside tleast tmost = x at e1 e2 ⊢
  generalize mf_elects a b Wd R nr nc = m at e1 e2 ⊢
  obtain ⟨m1, m2, m3⟩ := m
  obtain ⟨x1, x2⟩ := x
  dsimp only at e1 e2 ⊢
  subst e1
  rcases e2 with ⟨q0, q1, q2⟩ | ⟨k, hk, q1, q2, q3⟩
  · subst q1; subst q2; subst q0
    rw [if_neg (by decide), if_neg (by decide), r_answer (Or.inl rfl)]
    exact ⟨rfl, rfl, h, fun _ _ => rfl⟩
  · subst q1; subst q2
    rw [if_pos q3, if_pos q3, r_answer (Or.inr (nI_pos (by omega))), pk_us]
    have z1 : ¬ nI k = -1 := fun q => (nI_pos (show k < 2 ^ 31 by omega)) (by rw [q]; decide)
    unfold mf_orNone
    rw [if_neg z1]
    exact ⟨rfl, rfl, pH_mayor h ⟨nI_pos (by omega), by rw [nI_clamp (by omega)]; exact hk⟩, fun j hj => pk_un hj⟩
end R9
