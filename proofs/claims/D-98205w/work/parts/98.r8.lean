/-! r8: what a picture keeps; the plain laws of night, forget, shows, fits, vote, votes, elect -/
section R8
variable {a b : Nat → Int32} {Wd R nr nc : Nat} {ulit umayor unight uoil : Int32} {uborn ustays useen : Nat → Int32} {thouses talways tnever : Int32} {tbeside tleast tmost : Nat → Int32}
/-- a picture of the town: its stuck lamps as they must be, no lamp but on a house -/
def pL (thouses talways tnever x : Int32) : Prop := x &&& (talways ||| tnever) = talways ∧ x &&& thouses = x
theorem free_bt {k : Nat} (hk : k < 32) (hf : (((thouses &&& ((talways ||| tnever) ^^^ (-1))) >>> (nI k &&& 31)) &&& 1) = 1) : bt thouses k = true ∧ bt (talways ||| tnever) k = false := by
  rw [i_tst1] at hf
  have h : ¬ bt (thouses &&& ((talways ||| tnever) ^^^ (-1))) k = false := fun q => hf ((i_msk hk).mpr q)
  rw [b_and, b_xor, b_m1 k hk] at h
  cases h1 : bt thouses k <;> cases h2 : bt (talways ||| tnever) k <;> rw [h1, h2] at h <;> simp at h ⊢
theorem pL_or {x : Int32} {k : Nat} (hk : k < 32) (h : pL thouses talways tnever x) (hf : (((thouses &&& ((talways ||| tnever) ^^^ (-1))) >>> (nI k &&& 31)) &&& 1) = 1) : pL thouses talways tnever (x ||| ((1 : Int32) <<< (nI k &&& 31))) := by
  obtain ⟨f1, f2⟩ := free_bt hk hf
  refine ⟨b_ext fun i hi => ?_, b_ext fun i hi => ?_⟩
  · have h1 := congrArg (fun q => bt q i) h.1
    simp only [b_and] at h1
    rw [b_and, b_or, bt_s hk hi]
    by_cases c : i = k
    · subst c
      rw [f2] at h1 ⊢
      simp at h1 ⊢
      exact h1
    · rw [← h1]; simp [c]
  · have h1 := congrArg (fun q => bt q i) h.2
    simp only [b_and] at h1
    rw [b_and, b_or, bt_s hk hi]
    by_cases c : i = k
    · subst c; rw [f1]; simp
    · simp [c]; simpa using h1
theorem pL_nextBy {rule pic : Int32} (h30 : Wd * R ≤ 30) (hsub : talways &&& thouses = talways) : pL thouses talways tnever (hf_nextBy uborn ustays Wd R thouses talways tnever tbeside rule pic) := by
  show pL thouses talways tnever (zf (hf_nextBy_B20 uborn ustays Wd R thouses talways tnever tbeside rule pic) talways (Wd * R))
  have key : ∀ n, n ≤ Wd * R → pL thouses talways tnever (zf (hf_nextBy_B20 uborn ustays Wd R thouses talways tnever tbeside rule pic) talways n) := by
    intro n
    induction n with
    | zero =>
      refine fun _ => ⟨b_ext fun i hi => ?_, hsub⟩
      show bt (talways &&& (talways ||| tnever)) i = bt talways i
      rw [b_and, b_or]; cases bt talways i <;> rfl
    | succ n ih =>
      intro hn
      have h := ih (by omega)
      show pL thouses talways tnever (hf_nextBy_B20 uborn ustays Wd R thouses talways tnever tbeside rule pic n _)
      unfold hf_nextBy_B20
      split
      · rename_i hf
        first
          | (split
             · split
               · exact pL_or (by omega) h hf
               · exact h
             · split
               · exact pL_or (by omega) h hf
               · exact h)
          | (split
             · exact pL_or (by omega) h hf
             · exact h)
      · exact h
  exact key _ (Nat.le_refl _)
theorem pL_next {pic : Int32} (h30 : Wd * R ≤ 30) (hsub : talways &&& thouses = talways) : pL thouses talways tnever (hf_next umayor uborn ustays Wd R thouses talways tnever tbeside pic) := pL_nextBy h30 hsub
theorem pL_paint {pic : Int32} (hsub : talways &&& thouses = talways) : pL thouses talways tnever (hf_paint thouses talways tnever pic) := by
  refine ⟨hf_paint_stuck, b_ext fun i hi => ?_⟩
  have h1 := congrArg (fun q => bt q i) hsub
  simp only [b_and] at h1
  unfold hf_paint
  simp only [b_and, b_or, b_xor, b_m1 i hi]
  cases h2 : bt talways i <;> cases h3 : bt thouses i <;> rw [h2, h3] at h1 <;> cases bt pic i <;> cases bt tnever i <;> simp at h1 ⊢
theorem goes_fr (b : Nat → Int32) (hbe : ∀ k, k < Wd * R → zpc (tbeside k) ≤ 4) (h : pH a Wd R nr ulit umayor unight uoil uborn ustays useen thouses talways tnever tbeside) : ∀ j, ¬ j = 3 → ¬ j = 7 → ¬ j = 8 → ¬ (32 ≤ j ∧ j < 42) → (mf_goes a b Wd R).1 j = a j := by
  intro j h3 h7 h8 h32
  have k1 := (r_goesL (b := b) h hbe (Wd * R) (Nat.le_refl _)).1 j h32
  show upd (upd (upd (zf (mf_goes_B24 a Wd R (mf_laysNear a b Wd R)) a (Wd * R)) 8 _) 3 _) 7 _ j = a j
  rw [pk_un h7, pk_un h3, pk_un h8]
  exact k1
theorem night_seen (hs : ∀ k, k < 10 → ¬ useen k < 0 ∧ useen k ≤ 3) : ∀ k, k < 10 → ¬ (hf_night ulit umayor unight uoil uborn ustays useen Wd R thouses talways tnever tbeside).2.2.2 k < 0 ∧ (hf_night ulit umayor unight uoil uborn ustays useen Wd R thouses talways tnever tbeside).2.2.2 k ≤ 3 := by
  show ∀ k, k < 10 → ¬ (zf (hf_night_B11 ulit umayor uborn ustays Wd R thouses talways tnever tbeside) useen (Wd * R)) k < 0 ∧ (zf (hf_night_B11 ulit umayor uborn ustays Wd R thouses talways tnever tbeside) useen (Wd * R)) k ≤ 3
  have h3 : ∀ x : Int32, (¬ x < 0 ∧ x ≤ 3) → (¬ (x ||| 2) < 0 ∧ (x ||| 2) ≤ 3) ∧ (¬ (x ||| 1) < 0 ∧ (x ||| 1) ≤ 3) := by
    intro x hx
    have h1 := z_le 3 (by decide) hx.1 (show x ≤ nI 3 from hx.2)
    rw [z_nn hx.1]
    generalize x.toNatClampNeg = v at h1
    have : v = 0 ∨ v = 1 ∨ v = 2 ∨ v = 3 := by omega
    rcases this with rfl | rfl | rfl | rfl <;> decide
  refine zf_inv (fun s : Nat → Int32 => ∀ k, k < 10 → ¬ s k < 0 ∧ s k ≤ 3) ?_ hs (Wd * R)
  intro n s hP k hk
  have hg : ∀ (g : Nat) (x : Int32), ¬ x < 0 ∧ x ≤ 3 → ¬ (upd s g x) k < 0 ∧ (upd s g x) k ≤ 3 := fun g x hx => by
    by_cases e : k = g
    · subst e; rw [pk_us]; exact hx
    · rw [pk_un e]; exact hP k hk
  have hall : ∀ g, (¬ s g < 0 ∧ s g ≤ 3) ∨ ¬ g = k := fun g => by
    by_cases e : g = k
    · subst e; exact Or.inl (hP g hk)
    · exact Or.inr e
  unfold hf_night_B11
  split
  · split
    · rcases hall (hf_sight tbeside ulit n) with h | h
      · exact hg _ _ (h3 _ h).1
      · rw [pk_un (fun q => h q.symm)]; exact hP k hk
    · rcases hall (hf_sight tbeside ulit n) with h | h
      · exact hg _ _ (h3 _ h).2
      · rw [pk_un (fun q => h q.symm)]; exact hP k hk
  · exact hP k hk
/-- so many nights: the relation, what a picture keeps, the numbers that stay -/
def pN (a : Nat → Int32) (Wd R nr : Nat) (umayor : Int32) (uborn ustays : Nat → Int32) (thouses talways tnever : Int32) (tbeside : Nat → Int32) (s : (Nat → Int32) × (Nat → Int32)) (t : Int32 × Int32 × Int32 × (Nat → Int32)) : Prop :=
  pH s.1 Wd R nr t.1 umayor t.2.1 t.2.2.1 uborn ustays t.2.2.2 thouses talways tnever tbeside ∧ pL thouses talways tnever t.1 ∧ (∀ k, k < 10 → ¬ t.2.2.2 k < 0 ∧ t.2.2.2 k ≤ 3) ∧ ∀ j, ¬ j = 3 → ¬ j = 7 → ¬ j = 8 → ¬ (32 ≤ j ∧ j < 42) → s.1 j = a j
theorem pN_step {s : (Nat → Int32) × (Nat → Int32)} {t : Int32 × Int32 × Int32 × (Nat → Int32)} {n : Nat} (hbe : ∀ k, k < Wd * R → zpc (tbeside k) ≤ 4) (h30 : Wd * R ≤ 30) (hsub : talways &&& thouses = talways) (many : Int32) (h : pN a Wd R nr umayor uborn ustays thouses talways tnever tbeside s t) : pN a Wd R nr umayor uborn ustays thouses talways tnever tbeside (mf_night_B20 Wd R many n s) (xf_night_B32 umayor uborn ustays Wd R thouses talways tnever tbeside many n t) := by
  obtain ⟨i1, i2, i3, i4⟩ := h
  have hp := pL_next (umayor := umayor) (uborn := uborn) (ustays := ustays) (tbeside := tbeside) (pic := t.1) (tnever := tnever) h30 hsub
  have e1 : mf_night_B20 Wd R many n s = ((mf_goes s.1 s.2 Wd R).1, (mf_goes s.1 s.2 Wd R).2) := rfl
  have e2 : xf_night_B32 umayor uborn ustays Wd R thouses talways tnever tbeside many n t = ((hf_night t.1 umayor t.2.1 t.2.2.1 uborn ustays t.2.2.2 Wd R thouses talways tnever tbeside).1, (hf_night t.1 umayor t.2.1 t.2.2.1 uborn ustays t.2.2.2 Wd R thouses talways tnever tbeside).2.1, (hf_night t.1 umayor t.2.1 t.2.2.1 uborn ustays t.2.2.2 Wd R thouses talways tnever tbeside).2.2.1, (hf_night t.1 umayor t.2.1 t.2.2.1 uborn ustays t.2.2.2 Wd R thouses talways tnever tbeside).2.2.2) := rfl
  have hq : pL thouses talways tnever (hf_night t.1 umayor t.2.1 t.2.2.1 uborn ustays t.2.2.2 Wd R thouses talways tnever tbeside).1 := hp
  have g1 := r_goes (b := s.2) i1 hbe hp.1
  have g2 := night_seen (umayor := umayor) (uborn := uborn) (ustays := ustays) (tbeside := tbeside) (thouses := thouses) (talways := talways) (tnever := tnever) (Wd := Wd) (R := R) (ulit := t.1) (unight := t.2.1) (uoil := t.2.2.1) i3
  have g3 := fun j a1 a2 a3 a4 => (goes_fr s.2 hbe i1 j a1 a2 a3 a4).trans (i4 j a1 a2 a3 a4)
  rw [e1, e2]
  generalize mf_goes s.1 s.2 Wd R = u1 at g1 g3 ⊢
  generalize hf_night t.1 umayor t.2.1 t.2.2.1 uborn ustays t.2.2.2 Wd R thouses talways tnever tbeside = u2 at g1 g2 hq ⊢
  exact ⟨g1, hq, g2, g3⟩
theorem r_nights (hbe : ∀ k, k < Wd * R → zpc (tbeside k) ≤ 4) (h30 : Wd * R ≤ 30) (hsub : talways &&& thouses = talways) (many : Int32) (h : pH a Wd R nr ulit umayor unight uoil uborn ustays useen thouses talways tnever tbeside) (hL : pL thouses talways tnever ulit) (hs : ∀ k, k < 10 → ¬ useen k < 0 ∧ useen k ≤ 3) : ∀ n, pN a Wd R nr umayor uborn ustays thouses talways tnever tbeside (zf (mf_night_B20 Wd R many) (a, b) n) (zf (xf_night_B32 umayor uborn ustays Wd R thouses talways tnever tbeside many) (ulit, unight, uoil, useen) n)
  | 0 => ⟨h, hL, hs, fun _ _ _ _ _ => rfl⟩
  | n + 1 => pN_step hbe h30 hsub many (r_nights hbe h30 hsub many h hL hs n)
theorem rr_night {m : Int32} (hbe : ∀ k, k < Wd * R → zpc (tbeside k) ≤ 4) (h30 : Wd * R ≤ 30) (hsub : talways &&& thouses = talways) (h : pH a Wd R nr ulit umayor unight uoil uborn ustays useen thouses talways tnever tbeside) (hL : pL thouses talways tnever ulit) (hs : ∀ k, k < 10 → ¬ useen k < 0 ∧ useen k ≤ 3) : (xf_night ulit umayor unight uoil uborn ustays useen Wd R thouses talways tnever tbeside m).1 = (mf_night a b Wd R m).1 ∧ (xf_night ulit umayor unight uoil uborn ustays useen Wd R thouses talways tnever tbeside m).2.1 = (mf_night a b Wd R m).2.1 ∧ pH (mf_night a b Wd R m).2.2.1 Wd R nr (xf_night ulit umayor unight uoil uborn ustays useen Wd R thouses talways tnever tbeside m).2.2.1 umayor (xf_night ulit umayor unight uoil uborn ustays useen Wd R thouses talways tnever tbeside m).2.2.2.1 (xf_night ulit umayor unight uoil uborn ustays useen Wd R thouses talways tnever tbeside m).2.2.2.2.1 uborn ustays (xf_night ulit umayor unight uoil uborn ustays useen Wd R thouses talways tnever tbeside m).2.2.2.2.2 thouses talways tnever tbeside ∧ pL thouses talways tnever (xf_night ulit umayor unight uoil uborn ustays useen Wd R thouses talways tnever tbeside m).2.2.1 ∧ (∀ k, k < 10 → ¬ (xf_night ulit umayor unight uoil uborn ustays useen Wd R thouses talways tnever tbeside m).2.2.2.2.2 k < 0 ∧ (xf_night ulit umayor unight uoil uborn ustays useen Wd R thouses talways tnever tbeside m).2.2.2.2.2 k ≤ 3) ∧ ∀ j, ¬ j = 3 → ¬ j = 7 → ¬ j = 8 → ¬ (32 ≤ j ∧ j < 42) → (mf_night a b Wd R m).2.2.1 j = a j := by
  unfold xf_night mf_night zlet
  rw [r_in]
  by_cases c : xf_isIn m.toInt64 1 999 = true
  · rw [if_pos c, if_pos c]
    obtain ⟨i1, i2, i3, i4⟩ := r_nights (b := b) hbe h30 hsub m h hL hs m.toNatClampNeg
    refine ⟨?_, rfl, i1, i2, i3, i4⟩
    have := i1.2.1
    show nI (zpc (zf (xf_night_B32 umayor uborn ustays Wd R thouses talways tnever tbeside m) (ulit, unight, uoil, useen) m.toNatClampNeg).1) = nI (zpc ((zf (mf_night_B20 Wd R m) (a, b) m.toNatClampNeg).1 3))
    rw [this]
  · rw [if_neg c, if_neg c]
    exact ⟨rfl, rfl, h, hL, hs, fun _ _ _ _ _ => rfl⟩
theorem rr_forget (h : pH a Wd R nr ulit umayor unight uoil uborn ustays useen thouses talways tnever tbeside) (hs : ∀ k, k < 10 → ¬ useen k < 0 ∧ useen k ≤ 3) : (xf_forget useen).1 = (mf_forget a).1 ∧ (xf_forget useen).2.1 = (mf_forget a).2.1 ∧ pH (mf_forget a).2.2 Wd R nr ulit umayor unight uoil uborn ustays (xf_forget useen).2.2 thouses talways tnever tbeside ∧ (∀ k, k < 10 → (xf_forget useen).2.2 k = 0) ∧ ∀ j, ¬ (32 ≤ j ∧ j < 42) → (mf_forget a).2.2 j = a j := by
  have key : ∀ n, n ≤ 10 → (zf (xf_forget_B9) (0, useen) n).1 = (zf (mf_forget_B4) (0, a) n).1 ∧ (∀ j, ¬ (32 ≤ j ∧ j < 42) → (zf (mf_forget_B4) (0, a) n).2 j = a j) ∧ (∀ k, k < 10 → (zf (mf_forget_B4) (0, a) n).2 (32 + k) = (zf (xf_forget_B9) (0, useen) n).2 k) ∧ (∀ k, k < 10 → (zf (xf_forget_B9) (0, useen) n).2 k = if k < n then 0 else useen k) := by
    intro n
    induction n with
    | zero => exact fun _ => ⟨rfl, fun _ _ => rfl, h.2.2.2.2.2.2.2.2.2, fun k _ => (if_neg (Nat.not_lt_zero _)).symm⟩
    | succ n ih =>
      intro hn
      obtain ⟨i1, i2, i3, i4⟩ := ih (by omega)
      show (xf_forget_B9 n (zf (xf_forget_B9) (0, useen) n)).1 = (mf_forget_B4 n (zf (mf_forget_B4) (0, a) n)).1 ∧ (∀ j, ¬ (32 ≤ j ∧ j < 42) → (mf_forget_B4 n (zf (mf_forget_B4) (0, a) n)).2 j = a j) ∧ (∀ k, k < 10 → (mf_forget_B4 n (zf (mf_forget_B4) (0, a) n)).2 (32 + k) = (xf_forget_B9 n (zf (xf_forget_B9) (0, useen) n)).2 k) ∧ (∀ k, k < 10 → (xf_forget_B9 n (zf (xf_forget_B9) (0, useen) n)).2 k = if k < n + 1 then 0 else useen k)
      generalize zf (xf_forget_B9) (0, useen) n = s at i1 i3 i4 ⊢
      generalize zf (mf_forget_B4) (0, a) n = t at i1 i2 i3 ⊢
      have e := i3 n (by omega)
      have e4 := i4 n (by omega)
      rw [if_neg (Nat.lt_irrefl _)] at e4
      have hz : s.2 n ≤ 0 ↔ s.2 n = 0 := by
        rw [e4]
        constructor
        · intro q
          have := (hs n (by omega)).1
          exact Int32.le_antisymm q (Int32.not_lt.mp this)
        · intro q; rw [q]; decide
      have fr : ∀ x : Int32, (∀ j, ¬ (32 ≤ j ∧ j < 42) → (upd t.2 (32 + n) x) j = a j) := fun x j hj => (pk_un (by omega)).trans (i2 j hj)
      have sm : ∀ k, k < 10 → (upd t.2 (32 + n) 0) (32 + k) = (upd s.2 n 0) k := fun k hk => by
        by_cases q : k = n
        · subst q; rw [pk_us, pk_us]
        · rw [pk_un (by omega), pk_un q]; exact i3 k hk
      have zr : ∀ k, k < 10 → (upd s.2 n 0) k = if k < n + 1 then 0 else useen k := fun k hk => by
        by_cases q : k = n
        · subst q; rw [pk_us, if_pos (Nat.lt_succ_self _)]
        · rw [pk_un q, i4 k hk]
          by_cases q2 : k < n
          · rw [if_pos q2, if_pos (by omega)]
          · rw [if_neg q2, if_neg (by omega)]
      unfold xf_forget_B9 mf_forget_B4
      by_cases c : s.2 n = 0
      · rw [if_pos (hz.mpr c), if_pos (e.trans c)]
        exact ⟨by show s.1 + 0 = t.1 + 0; rw [i1], fr 0, sm, zr⟩
      · rw [if_neg (fun q => c (hz.mp q)), if_neg (fun q => c (e.symm.trans q))]
        exact ⟨by show s.1 + 1 = t.1 + 1; rw [i1], fr 0, sm, zr⟩
  obtain ⟨k1, k2, k3, k4⟩ := key 10 (Nat.le_refl _)
  obtain ⟨hT, h3, h34, h7, h8, h10, hm, hr, hb, -⟩ := h
  unfold xf_forget mf_forget zlet xf_forget_L9 mf_forget_L4
  generalize zf (xf_forget_B9) (0, useen) 10 = sx at k1 k2 k3 k4 ⊢
  generalize zf (mf_forget_B4) (0, a) 10 = sm at k1 k2 k3 k4 ⊢
  dsimp only
  refine ⟨k1, rfl, ⟨⟨?_, ?_, fun k hk => ?_⟩, ?_, ?_, ?_, ?_, ?_, hm, hr, fun k hk => ⟨?_, ?_⟩, k3⟩, fun k hk => ?_, k2⟩
  · exact (k2 2 (by omega)).trans hT.1
  · exact (k2 4 (by omega)).trans hT.2.1
  · rw [hT.2.2 k hk]; exact (mf_near_same (k2 2 (by omega)) (k2 9 (by omega)) k).symm
  · exact (k2 3 (by omega)).trans h3
  · rw [k2 3 (by omega), k2 4 (by omega)]; exact h34
  · exact (k2 7 (by omega)).trans h7
  · exact (k2 8 (by omega)).trans h8
  · exact (k2 10 (by omega)).trans h10
  · exact (k2 _ (by omega)).trans (hb k hk).1
  · exact (k2 _ (by omega)).trans (hb k hk).2
  · have := k4 k hk
    rw [if_pos hk] at this
    exact this
theorem rr_shows (h : pH a Wd R nr ulit umayor unight uoil uborn ustays useen thouses talways tnever tbeside) (hbe : ∀ k, k < Wd * R → zpc (tbeside k) ≤ 4) : (xf_shows ulit useen Wd R thouses talways tnever tbeside).1 = (mf_shows a b Wd R).1 ∧ (xf_shows ulit useen Wd R thouses talways tnever tbeside).2 = (mf_shows a b Wd R).2.1 := by
  obtain ⟨hT, h3, -, -, -, -, -, -, -, hs⟩ := h
  have e : zf (xf_shows_B9 ulit useen Wd R thouses talways tnever tbeside) 0 (Wd * R) = zf (mf_shows_B8 a Wd R (mf_laysNear a b Wd R)) 0 (Wd * R) := by
    refine zf_congr _ (fun k hk s => ?_)
    unfold xf_shows_B9 mf_shows_B8
    rw [r_free hT, r_lay hT hk, h3]
    have hg : hf_sight tbeside ulit k = 5 * ((ulit >>> ((nI k) &&& 31)) &&& 1).toNatClampNeg + zpc (tbeside k &&& ulit) := by unfold hf_sight; rw [Int32.and_comm ulit]
    have hg9 : hf_sight tbeside ulit k ≤ 9 := hf_sight_le (hbe k hk)
    rw [← hg, hs _ (show hf_sight tbeside ulit k < 10 by omega)]
    rcases z_b01 ((thouses &&& ((talways ||| tnever) ^^^ (-1))) >>> ((nI k) &&& 31)) with f | f
    · rw [f, if_pos rfl, if_neg (by decide)]
    · rw [f, if_pos rfl, if_neg (show ¬ (1 : Int32) = 0 by decide)]
      by_cases c : useen (hf_sight tbeside ulit k) = 0
      · rw [if_pos c, if_pos c]
      · rw [if_neg c, if_neg c, Int32.or_zero]
  show (nI (zpc (zf (xf_shows_B9 ulit useen Wd R thouses talways tnever tbeside) 0 (Wd * R)))) = nI (zpc (zf (mf_shows_B8 a Wd R (mf_laysNear a b Wd R)) 0 (Wd * R))) ∧ (0 : Int32) = 0
  rw [e]
  exact ⟨rfl, rfl⟩
theorem rr_fits (h : pH a Wd R nr ulit umayor unight uoil uborn ustays useen thouses talways tnever tbeside) (hs3 : ∀ k, k < 10 → ¬ useen k < 0 ∧ useen k ≤ 3) : xf_fits0 uborn ustays useen nr = mf_fits a nr := by
  obtain ⟨-, -, -, -, -, -, -, hr, hb, hs⟩ := h
  have hv : ∀ k, k < 10 → useen k = 0 ∨ useen k = 1 ∨ useen k = 2 ∨ useen k = 3 := fun k hk => by
    obtain ⟨q1, q2⟩ := hs3 k hk
    have q3 := z_le 3 (by decide) q1 (show useen k ≤ nI 3 from q2)
    have e := z_nn q1
    generalize (useen k).toNatClampNeg = v at q3 e
    have : v = 0 ∨ v = 1 ∨ v = 2 ∨ v = 3 := by omega
    rcases this with rfl | rfl | rfl | rfl
    · exact Or.inl e
    · exact Or.inr (Or.inl e)
    · exact Or.inr (Or.inr (Or.inl e))
    · exact Or.inr (Or.inr (Or.inr e))
  have e : zf (xf_fits0_B9 uborn ustays useen nr) 0 nr = zf (mf_fits_B4 a nr) 0 nr := by
    refine zf_congr _ (fun k hk s => ?_)
    have e2 : zf (xf_fits0_B25 uborn ustays useen k) true 10 = zf (mf_fits_B19 a k) true 10 := by
      refine zf_congr _ (fun i hi s => ?_)
      obtain ⟨u1, u2⟩ := hb k (by omega)
      unfold xf_fits0_B25 mf_fits_B19
      by_cases c : s = true
      · rw [if_pos c, if_pos c, hs i hi]
        have hnk : ¬ nI k < 0 := nI_pos (by omega)
        have hck : (nI k).toNatClampNeg = k := nI_clamp (by omega)
        unfold hf_becomes
        rw [if_neg hnk, if_neg hnk, hck]
        by_cases d : i ≤ 4
        · rw [if_pos d]
          have hd : i / 5 = 0 := by omega
          rw [hd, Nat.add_zero, u1, if_neg (show ¬ (false = true) by decide)]
          rcases z_b01 (uborn k >>> (nI (i % 5) &&& 31)) with g | g
          · rw [g, if_neg (show ¬ (0 : Int32) = 1 by decide), if_neg (show ¬ (false = true) by decide)]
            rcases hv i hi with q | q | q | q <;> rw [q] <;> decide
          · rw [g, if_pos rfl, if_pos rfl]
            rcases hv i hi with q | q | q | q <;> rw [q] <;> decide
        · rw [if_neg d]
          have hd : i / 5 = 1 := by omega
          rw [hd, u2, if_pos (show true = true from rfl)]
          rcases z_b01 (ustays k >>> (nI (i % 5) &&& 31)) with g | g
          · rw [g, if_neg (show ¬ (0 : Int32) = 1 by decide), if_neg (show ¬ (false = true) by decide)]
            rcases hv i hi with q | q | q | q <;> rw [q] <;> decide
          · rw [g, if_pos rfl, if_pos rfl]
            rcases hv i hi with q | q | q | q <;> rw [q] <;> decide
      · rw [if_neg c, if_neg c]
    unfold xf_fits0_B9 mf_fits_B4 zlet
    show (if zf (xf_fits0_B25 uborn ustays useen k) true 10 = true then _ else _) = (if zf (mf_fits_B19 a k) true 10 = true then _ else _)
    rw [e2]
  show (zf (xf_fits0_B9 uborn ustays useen nr) 0 nr, (0 : Int32)) = (zf (mf_fits_B4 a nr) 0 nr, (0 : Int32))
  rw [e]
end R8
