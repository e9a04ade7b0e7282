/-! r14: the least signal -/
def b1 (i : Nat) : Int32 := (1 : Int32) <<< (nI i &&& 31)
theorem s3_nn : ∀ m, m < 30 → (0 ≤ b1 m) ∧ ∀ j, j < m → (0 ≤ b1 j ||| b1 m) ∧ ∀ i, i < j → 0 ≤ (b1 i ||| b1 j) ||| b1 m := by decide +kernel
/-- the model's best: fewer first, then the smaller set -/
def Sg (wk : Int32 → Prop) (V : Int32 → Int32 → Prop) (s : Int32 × Int32) : Prop := (s.1 = -1 ∧ ∀ c t, V c t → ¬ wk t) ∨ (0 ≤ s.1 ∧ V s.2 s.1 ∧ wk s.1 ∧ ∀ c t, V c t → wk t → s.2 < c ∨ (s.2 = c ∧ s.1 ≤ t))
theorem sg_same {wk : Int32 → Prop} {V V' : Int32 → Int32 → Prop} {s : Int32 × Int32} (h : Sg wk V s) (hV : ∀ c t, V' c t ↔ V c t) : Sg wk V' s := by
  have e : V' = V := funext fun c => funext fun t => propext (hV c t)
  rw [e]; exact h
theorem sg_keep {wk : Int32 → Prop} {V V' : Int32 → Int32 → Prop} {s : Int32 × Int32} {many set_ : Int32} (h : Sg wk V s) (hw : ¬ wk set_) (hV : ∀ c t, V' c t ↔ V c t ∨ (c = many ∧ t = set_)) : Sg wk V' s := by
  rcases h with ⟨h1, h2⟩ | ⟨h1, h2, h3, h4⟩
  · refine Or.inl ⟨h1, fun c t q => ?_⟩
    rcases (hV c t).mp q with r | ⟨_, r⟩
    · exact h2 c t r
    · rw [r]; exact hw
  · refine Or.inr ⟨h1, (hV _ _).mpr (Or.inl h2), h3, fun c t q w => ?_⟩
    rcases (hV c t).mp q with r | ⟨_, r⟩
    · exact h4 c t r w
    · rw [r] at w; exact absurd w hw
theorem sg_stay {wk : Int32 → Prop} {V V' : Int32 → Int32 → Prop} {s : Int32 × Int32} {many set_ : Int32} (h : Sg wk V s) (hs : ¬ s.1 = -1) (hw : s.2 < many ∨ (s.2 = many ∧ s.1 ≤ set_)) (hV : ∀ c t, V' c t ↔ V c t ∨ (c = many ∧ t = set_)) : Sg wk V' s := by
  rcases h with ⟨h1, h2⟩ | ⟨h1, h2, h3, h4⟩
  · exact absurd h1 hs
  · refine Or.inr ⟨h1, (hV _ _).mpr (Or.inl h2), h3, fun c t q w => ?_⟩
    rcases (hV c t).mp q with r | ⟨r1, r2⟩
    · exact h4 c t r w
    · rw [r1, r2]; exact hw
theorem sg_take {wk : Int32 → Prop} {V V' : Int32 → Int32 → Prop} {s : Int32 × Int32} {many set_ : Int32} (h : Sg wk V s) (h0 : 0 ≤ set_) (hw : wk set_) (hb : s.1 = -1 ∨ many < s.2 ∨ (many = s.2 ∧ set_ < s.1)) (hV : ∀ c t, V' c t ↔ V c t ∨ (c = many ∧ t = set_)) : Sg wk V' (set_, many) := by
  refine Or.inr ⟨h0, (hV _ _).mpr (Or.inr ⟨rfl, rfl⟩), hw, fun c t q w => ?_⟩
  rcases (hV c t).mp q with r | ⟨r1, r2⟩
  · rcases h with ⟨h1, h2⟩ | ⟨h1, h2, h3, h4⟩
    · exact absurd w (h2 c t r)
    · rcases hb with b | b | ⟨b1, b2⟩
      · rw [b] at h1; exact absurd h1 (by decide)
      · rcases h4 c t r w with z | ⟨z, _⟩
        · exact Or.inl (Int32.lt_trans b z)
        · rw [← z]; exact Or.inl b
      · rcases h4 c t r w with z | ⟨z1, z2⟩
        · exact Or.inl (by show many < c; rw [b1]; exact z)
        · exact Or.inr ⟨by show many = c; rw [b1]; exact z1, Int32.le_of_lt (Int32.lt_of_lt_of_le b2 z2)⟩
  · exact Or.inr ⟨r1.symm, by show set_ ≤ t; rw [r2]; exact Int32.le_refl _⟩
/-- the system's best of one size -/
def Sx (wk : Int32 → Prop) (V : Int32 → Prop) (s : Int32) : Prop := (s < 0 ∧ ∀ t, V t → ¬ wk t) ∨ (0 ≤ s ∧ V s ∧ wk s ∧ ∀ t, V t → wk t → s ≤ t)
theorem sx_same {wk : Int32 → Prop} {V V' : Int32 → Prop} {s : Int32} (h : Sx wk V s) (hV : ∀ t, V' t ↔ V t) : Sx wk V' s := by
  have e : V' = V := funext fun t => propext (hV t)
  rw [e]; exact h
section R14
variable {a b th : Nat → Int32} {Wd R nr nc : Nat} {ulit umayor unight uoil : Int32} {uborn ustays useen : Nat → Int32} {thouses talways tnever : Int32} {tbeside tleast tmost : Nat → Int32} {cl : Int32} {n : Nat} {fr : Int32}
/-- the set makes the lamp burn -/
def wkS (ulit umayor : Int32) (uborn ustays : Nat → Int32) (Wd R : Nat) (thouses talways tnever : Int32) (tbeside : Nat → Int32) (cl : Int32) (n : Nat) (s : Int32) : Prop := (((hf_after umayor uborn ustays Wd R thouses talways tnever tbeside (ulit ^^^ s) n) >>> (cl &&& 31)) &&& 1) = 1
theorem sx_t0 {V V' : Int32 → Prop} {t set_ : Int32} (h : Sx (wkS ulit umayor uborn ustays Wd R thouses talways tnever tbeside cl n) V t) (h0 : 0 ≤ set_) (hV : ∀ u, V' u ↔ V u ∨ u = set_) : Sx (wkS ulit umayor uborn ustays Wd R thouses talways tnever tbeside cl n) V' (xf_tries0 t ulit umayor uborn ustays Wd R thouses talways tnever tbeside cl n set_) := by
  unfold xf_tries0
  by_cases w : (((hf_after umayor uborn ustays Wd R thouses talways tnever tbeside (ulit ^^^ set_) n) >>> (cl &&& 31)) &&& 1) = 1
  · have tk : (t < 0 ∨ set_ < t) → Sx (wkS ulit umayor uborn ustays Wd R thouses talways tnever tbeside cl n) V' set_ := fun q => by
      refine Or.inr ⟨h0, (hV _).mpr (Or.inr rfl), w, fun u hu hw => ?_⟩
      rcases (hV u).mp hu with r | r
      · rcases h with ⟨h1, h2⟩ | ⟨h1, h2, h3, h4⟩
        · exact absurd hw (h2 u r)
        · rcases q with q | q
          · exact absurd h1 (Int32.not_le.mpr q)
          · exact Int32.le_of_lt (Int32.lt_of_lt_of_le q (h4 u r hw))
      · rw [r]; exact Int32.le_refl _
    by_cases c : t < 0
    · rw [if_pos c, if_pos w]; exact tk (Or.inl c)
    · rw [if_neg c]
      by_cases d : set_ < t
      · rw [if_pos d, if_pos w]; exact tk (Or.inr d)
      · rw [if_neg d]
        rcases h with ⟨h1, h2⟩ | ⟨h1, h2, h3, h4⟩
        · exact absurd h1 c
        · refine Or.inr ⟨h1, (hV _).mpr (Or.inl h2), h3, fun u hu hw => ?_⟩
          rcases (hV u).mp hu with r | r
          · exact h4 u r hw
          · rw [r]; exact Int32.not_lt.mp d
  · have kp : Sx (wkS ulit umayor uborn ustays Wd R thouses talways tnever tbeside cl n) V' t := by
      rcases h with ⟨h1, h2⟩ | ⟨h1, h2, h3, h4⟩
      · refine Or.inl ⟨h1, fun u hu => ?_⟩
        rcases (hV u).mp hu with r | r
        · exact h2 u r
        · rw [r]; exact w
      · refine Or.inr ⟨h1, (hV _).mpr (Or.inl h2), h3, fun u hu hw => ?_⟩
        rcases (hV u).mp hu with r | r
        · exact h4 u r hw
        · rw [r] at hw; exact absurd hw w
    by_cases c : t < 0
    · rw [if_pos c, if_neg w]; exact kp
    · rw [if_neg c]
      by_cases d : set_ < t
      · rw [if_pos d, if_neg w]; exact kp
      · rw [if_neg d]; exact kp
/-- what a sweep over the free houses from fro on adds, the step a set family -/
def vF (fr : Int32) (N fro l : Nat) (g : Nat → Int32 → Prop) (u : Int32) : Prop := ∃ j, fro ≤ j ∧ j < l ∧ j < N ∧ bt fr j = true ∧ g j u
theorem vF_0 {N fro : Nat} {g : Nat → Int32 → Prop} (u : Int32) : ¬ vF fr N fro fro g u := fun ⟨_, h1, h2, _⟩ => absurd h2 (Nat.not_lt.mpr h1)
theorem vF_s {N fro l : Nat} {g : Nat → Int32 → Prop} (hl : fro ≤ l) (hN : l < N) (hf : bt fr l = true) (u : Int32) : vF fr N fro (l + 1) g u ↔ vF fr N fro l g u ∨ g l u := by
  constructor
  · rintro ⟨j, h1, h2, h3, h4, h5⟩
    by_cases e : j = l
    · subst e; exact Or.inr h5
    · exact Or.inl ⟨j, h1, by omega, h3, h4, h5⟩
  · rintro (⟨j, h1, h2, h3, h4, h5⟩ | q)
    · exact ⟨j, h1, by omega, h3, h4, h5⟩
    · exact ⟨l, hl, by omega, hN, hf, q⟩
theorem vF_n {N fro l : Nat} {g : Nat → Int32 → Prop} (hf : ¬ bt fr l = true) (u : Int32) : vF fr N fro (l + 1) g u ↔ vF fr N fro l g u := by
  constructor
  · rintro ⟨j, h1, h2, h3, h4, h5⟩
    by_cases e : j = l
    · subst e; exact absurd h4 hf
    · exact ⟨j, h1, by omega, h3, h4, h5⟩
  · rintro ⟨j, h1, h2, h3, h4, h5⟩
    exact ⟨j, h1, by omega, h3, h4, h5⟩
/-- any of the three sweeps: the loop's body goes by a function that adds g l -/
theorem sx_sweep {N fro : Nat} {wk : Int32 → Prop} {V : Int32 → Prop} {g : Nat → Int32 → Prop} {B : Nat × Int32 → (Nat × Int32) ⊕ (Nat × Int32)} {F : Nat → Int32 → Int32} (h32 : N ≤ 32) (hB : ∀ l t, B (l, t) = if N ≤ l then .inr (l, t) else if ((fr >>> (nI l &&& 31)) &&& 1) = 1 then .inl (l + 1, F l t) else .inl (l + 1, t)) (hF : ∀ l t (V V' : Int32 → Prop), fro ≤ l → l < N → bt fr l = true → Sx wk V t → (∀ u, V' u ↔ V u ∨ g l u) → Sx wk V' (F l t)) (d : Nat × Int32) : ∀ m l t, N - l < m → fro ≤ l → l ≤ N → Sx wk (fun u => V u ∨ vF fr N fro l g u) t → Sx wk (fun u => V u ∨ vF fr N fro N g u) (zw B d m (l, t)).2 := by
  intro m
  induction m with
  | zero => intro l t h; exact absurd h (Nat.not_lt_zero _)
  | succ m ih =>
    intro l t h hfl hl hS
    by_cases c : N ≤ l
    · have e : l = N := Nat.le_antisymm hl c
      subst e
      rw [zw_r (show B (l, t) = .inr (l, t) by rw [hB, if_pos c])]
      exact hS
    · by_cases f : ((fr >>> (nI l &&& 31)) &&& 1) = 1
      · rw [zw_l (show B (l, t) = .inl (l + 1, F l t) by rw [hB, if_neg c, if_pos f])]
        have fl := (t_bt (show l < 32 by omega)).mp f
        refine ih (l + 1) _ (by omega) (by omega) (by omega) (hF l t _ _ hfl (by omega) fl hS (fun u => ?_))
        rw [vF_s hfl (by omega) fl u, or_assoc]
      · rw [zw_l (show B (l, t) = .inl (l + 1, t) by rw [hB, if_neg c, if_neg f])]
        have fl : ¬ bt fr l = true := fun q => f ((t_bt (show l < 32 by omega)).mpr q)
        refine ih (l + 1) _ (by omega) (by omega) (by omega) (sx_same hS (fun u => ?_))
        rw [vF_n fl u]
theorem sx_start {N fro : Nat} {wk : Int32 → Prop} {V : Int32 → Prop} {g : Nat → Int32 → Prop} {t : Int32} (h : Sx wk V t) : Sx wk (fun u => V u ∨ vF fr N fro fro g u) t := sx_same h (fun u => ⟨fun q => q.elim id (fun z => absurd z (vF_0 u)), Or.inl⟩)
theorem sx_t1 {V V' : Int32 → Prop} {t set_ : Int32} {fro : Nat} (hfr : fr = thouses &&& ((talways ||| tnever) ^^^ (-1))) (h32 : Wd * R ≤ 32) (hf0 : fro ≤ Wd * R) (h : Sx (wkS ulit umayor uborn ustays Wd R thouses talways tnever tbeside cl n) V t) (h0 : ∀ j, fro ≤ j → j < Wd * R → 0 ≤ set_ ||| b1 j) (hV : ∀ u, V' u ↔ V u ∨ vF fr (Wd * R) fro (Wd * R) (fun j u => u = set_ ||| b1 j) u) : Sx (wkS ulit umayor uborn ustays Wd R thouses talways tnever tbeside cl n) V' (xf_tries1 t ulit umayor uborn ustays Wd R thouses talways tnever tbeside cl n set_ fro) := by
  refine sx_same (V := fun u => V u ∨ vF fr (Wd * R) fro (Wd * R) (fun j u => u = set_ ||| b1 j) u) ?_ hV
  unfold xf_tries1 zlet xf_tries1_L56
  exact sx_sweep (F := fun l t => xf_tries0 t ulit umayor uborn ustays Wd R thouses talways tnever tbeside cl n (set_ ||| b1 l)) h32 (fun l t => by unfold xf_tries1_B56 zlet; rw [hfr]; rfl) (fun l t V V' h1 h2 _ hS hV => sx_t0 hS (h0 l h1 h2) hV) _ ((Wd * R - fro) + 1) fro t (Nat.lt_succ_self _) (Nat.le_refl _) hf0 (sx_start h)
theorem sx_t2 {V V' : Int32 → Prop} {t set_ : Int32} {fro : Nat} (hfr : fr = thouses &&& ((talways ||| tnever) ^^^ (-1))) (h32 : Wd * R ≤ 32) (hf0 : fro ≤ Wd * R) (h : Sx (wkS ulit umayor uborn ustays Wd R thouses talways tnever tbeside cl n) V t) (h0 : ∀ i j, fro ≤ i → i < j → j < Wd * R → 0 ≤ (set_ ||| b1 i) ||| b1 j) (hV : ∀ u, V' u ↔ V u ∨ vF fr (Wd * R) fro (Wd * R) (fun i u => vF fr (Wd * R) (i + 1) (Wd * R) (fun j u => u = (set_ ||| b1 i) ||| b1 j) u) u) : Sx (wkS ulit umayor uborn ustays Wd R thouses talways tnever tbeside cl n) V' (xf_tries2 t ulit umayor uborn ustays Wd R thouses talways tnever tbeside cl n set_ fro) := by
  refine sx_same (V := fun u => V u ∨ vF fr (Wd * R) fro (Wd * R) (fun i u => vF fr (Wd * R) (i + 1) (Wd * R) (fun j u => u = (set_ ||| b1 i) ||| b1 j) u) u) ?_ hV
  unfold xf_tries2 zlet xf_tries2_L56
  exact sx_sweep (F := fun l t => xf_tries1 t ulit umayor uborn ustays Wd R thouses talways tnever tbeside cl n (set_ ||| b1 l) (l + 1)) h32 (fun l t => by unfold xf_tries2_B56 zlet; rw [hfr]; rfl) (fun l t V V' h1 h2 _ hS hV => sx_t1 hfr h32 (by omega) hS (fun j h3 h4 => h0 l j h1 (by omega) h4) hV) _ ((Wd * R - fro) + 1) fro t (Nat.lt_succ_self _) (Nat.le_refl _) hf0 (sx_start h)
theorem sx_t3 {V V' : Int32 → Prop} {t set_ : Int32} {fro : Nat} (hfr : fr = thouses &&& ((talways ||| tnever) ^^^ (-1))) (h32 : Wd * R ≤ 32) (hf0 : fro ≤ Wd * R) (h : Sx (wkS ulit umayor uborn ustays Wd R thouses talways tnever tbeside cl n) V t) (h0 : ∀ i j k, fro ≤ i → i < j → j < k → k < Wd * R → 0 ≤ ((set_ ||| b1 i) ||| b1 j) ||| b1 k) (hV : ∀ u, V' u ↔ V u ∨ vF fr (Wd * R) fro (Wd * R) (fun i u => vF fr (Wd * R) (i + 1) (Wd * R) (fun j u => vF fr (Wd * R) (j + 1) (Wd * R) (fun k u => u = ((set_ ||| b1 i) ||| b1 j) ||| b1 k) u) u) u) : Sx (wkS ulit umayor uborn ustays Wd R thouses talways tnever tbeside cl n) V' (xf_tries3 t ulit umayor uborn ustays Wd R thouses talways tnever tbeside cl n set_ fro) := by
  refine sx_same (V := fun u => V u ∨ vF fr (Wd * R) fro (Wd * R) (fun i u => vF fr (Wd * R) (i + 1) (Wd * R) (fun j u => vF fr (Wd * R) (j + 1) (Wd * R) (fun k u => u = ((set_ ||| b1 i) ||| b1 j) ||| b1 k) u) u) u) ?_ hV
  unfold xf_tries3 zlet xf_tries3_L56
  exact sx_sweep (F := fun l t => xf_tries2 t ulit umayor uborn ustays Wd R thouses talways tnever tbeside cl n (set_ ||| b1 l) (l + 1)) h32 (fun l t => by unfold xf_tries3_B56 zlet; rw [hfr]; rfl) (fun l t V V' h1 h2 _ hS hV => sx_t2 hfr h32 (by omega) hS (fun i j h3 h4 h5 => h0 l i j h1 (by omega) h4 h5) hV) _ ((Wd * R - fro) + 1) fro t (Nat.lt_succ_self _) (Nat.le_refl _) hf0 (sx_start h)
/-! the model's sweeps -/
/-- the sets tried: none, one, two, three free houses -/
def vS (fr : Int32) (N : Nat) (P1 : Nat → Prop) (P2 : Nat → Nat → Prop) (P3 : Nat → Nat → Nat → Prop) (c u : Int32) : Prop :=
  (c = 0 ∧ u = 0) ∨ (c = 1 ∧ ∃ i, i < N ∧ bt fr i = true ∧ P1 i ∧ u = b1 i) ∨ (c = 2 ∧ ∃ i j, i < j ∧ j < N ∧ bt fr i = true ∧ bt fr j = true ∧ P2 i j ∧ u = b1 i ||| b1 j) ∨ (c = 3 ∧ ∃ i j k, i < j ∧ j < k ∧ k < N ∧ bt fr i = true ∧ bt fr j = true ∧ bt fr k = true ∧ P3 i j k ∧ u = (b1 i ||| b1 j) ||| b1 k)
theorem vS_same {N : Nat} {P1 P1' : Nat → Prop} {P2 P2' : Nat → Nat → Prop} {P3 P3' : Nat → Nat → Nat → Prop} (h1 : ∀ i, i < N → bt fr i = true → (P1' i ↔ P1 i)) (h2 : ∀ i j, i < j → j < N → bt fr i = true → bt fr j = true → (P2' i j ↔ P2 i j)) (h3 : ∀ i j k, i < j → j < k → k < N → bt fr i = true → bt fr j = true → bt fr k = true → (P3' i j k ↔ P3 i j k)) (c u : Int32) : vS fr N P1' P2' P3' c u ↔ vS fr N P1 P2 P3 c u := by
  unfold vS
  constructor
  · rintro (q | ⟨e, i, a1, a2, a3, a4⟩ | ⟨e, i, j, a1, a2, a3, a4, a5, a6⟩ | ⟨e, i, j, k, a1, a2, a3, a4, a5, a6, a7, a8⟩)
    · exact Or.inl q
    · exact Or.inr (Or.inl ⟨e, i, a1, a2, (h1 i a1 a2).mp a3, a4⟩)
    · exact Or.inr (Or.inr (Or.inl ⟨e, i, j, a1, a2, a3, a4, (h2 i j a1 a2 a3 a4).mp a5, a6⟩))
    · exact Or.inr (Or.inr (Or.inr ⟨e, i, j, k, a1, a2, a3, a4, a5, a6, (h3 i j k a1 a2 a3 a4 a5 a6).mp a7, a8⟩))
  · rintro (q | ⟨e, i, a1, a2, a3, a4⟩ | ⟨e, i, j, a1, a2, a3, a4, a5, a6⟩ | ⟨e, i, j, k, a1, a2, a3, a4, a5, a6, a7, a8⟩)
    · exact Or.inl q
    · exact Or.inr (Or.inl ⟨e, i, a1, a2, (h1 i a1 a2).mpr a3, a4⟩)
    · exact Or.inr (Or.inr (Or.inl ⟨e, i, j, a1, a2, a3, a4, (h2 i j a1 a2 a3 a4).mpr a5, a6⟩))
    · exact Or.inr (Or.inr (Or.inr ⟨e, i, j, k, a1, a2, a3, a4, a5, a6, (h3 i j k a1 a2 a3 a4 a5 a6).mpr a7, a8⟩))
theorem vS_1 {N i0 : Nat} {P1 P1' : Nat → Prop} {P2 : Nat → Nat → Prop} {P3 : Nat → Nat → Nat → Prop} (hi : i0 < N) (f0 : bt fr i0 = true) (h1 : ∀ i, i < N → (P1' i ↔ P1 i ∨ i = i0)) (c u : Int32) : vS fr N P1' P2 P3 c u ↔ vS fr N P1 P2 P3 c u ∨ (c = 1 ∧ u = b1 i0) := by
  unfold vS
  constructor
  · rintro (q | ⟨e, i, a1, a2, a3, a4⟩ | q | q)
    · exact Or.inl (Or.inl q)
    · rcases (h1 i a1).mp a3 with r | r
      · exact Or.inl (Or.inr (Or.inl ⟨e, i, a1, a2, r, a4⟩))
      · subst r; exact Or.inr ⟨e, a4⟩
    · exact Or.inl (Or.inr (Or.inr (Or.inl q)))
    · exact Or.inl (Or.inr (Or.inr (Or.inr q)))
  · rintro ((q | ⟨e, i, a1, a2, a3, a4⟩ | q | q) | ⟨e, q⟩)
    · exact Or.inl q
    · exact Or.inr (Or.inl ⟨e, i, a1, a2, (h1 i a1).mpr (Or.inl a3), a4⟩)
    · exact Or.inr (Or.inr (Or.inl q))
    · exact Or.inr (Or.inr (Or.inr q))
    · exact Or.inr (Or.inl ⟨e, i0, hi, f0, (h1 i0 hi).mpr (Or.inr rfl), q⟩)
theorem vS_2 {N i0 j0 : Nat} {P1 : Nat → Prop} {P2 P2' : Nat → Nat → Prop} {P3 : Nat → Nat → Nat → Prop} (hij : i0 < j0) (hj : j0 < N) (f0 : bt fr i0 = true) (f1 : bt fr j0 = true) (h2 : ∀ i j, i < j → j < N → (P2' i j ↔ P2 i j ∨ (i = i0 ∧ j = j0))) (c u : Int32) : vS fr N P1 P2' P3 c u ↔ vS fr N P1 P2 P3 c u ∨ (c = 2 ∧ u = b1 i0 ||| b1 j0) := by
  unfold vS
  constructor
  · rintro (q | q | ⟨e, i, j, a1, a2, a3, a4, a5, a6⟩ | q)
    · exact Or.inl (Or.inl q)
    · exact Or.inl (Or.inr (Or.inl q))
    · rcases (h2 i j a1 a2).mp a5 with r | ⟨r1, r2⟩
      · exact Or.inl (Or.inr (Or.inr (Or.inl ⟨e, i, j, a1, a2, a3, a4, r, a6⟩)))
      · subst r1; subst r2; exact Or.inr ⟨e, a6⟩
    · exact Or.inl (Or.inr (Or.inr (Or.inr q)))
  · rintro ((q | q | ⟨e, i, j, a1, a2, a3, a4, a5, a6⟩ | q) | ⟨e, q⟩)
    · exact Or.inl q
    · exact Or.inr (Or.inl q)
    · exact Or.inr (Or.inr (Or.inl ⟨e, i, j, a1, a2, a3, a4, (h2 i j a1 a2).mpr (Or.inl a5), a6⟩))
    · exact Or.inr (Or.inr (Or.inr q))
    · exact Or.inr (Or.inr (Or.inl ⟨e, i0, j0, hij, hj, f0, f1, (h2 i0 j0 hij hj).mpr (Or.inr ⟨rfl, rfl⟩), q⟩))
theorem vS_3 {N i0 j0 k0 : Nat} {P1 : Nat → Prop} {P2 : Nat → Nat → Prop} {P3 P3' : Nat → Nat → Nat → Prop} (hij : i0 < j0) (hjk : j0 < k0) (hk : k0 < N) (f0 : bt fr i0 = true) (f1 : bt fr j0 = true) (f2 : bt fr k0 = true) (h3 : ∀ i j k, i < j → j < k → k < N → (P3' i j k ↔ P3 i j k ∨ (i = i0 ∧ j = j0 ∧ k = k0))) (c u : Int32) : vS fr N P1 P2 P3' c u ↔ vS fr N P1 P2 P3 c u ∨ (c = 3 ∧ u = (b1 i0 ||| b1 j0) ||| b1 k0) := by
  unfold vS
  constructor
  · rintro (q | q | q | ⟨e, i, j, k, a1, a2, a3, a4, a5, a6, a7, a8⟩)
    · exact Or.inl (Or.inl q)
    · exact Or.inl (Or.inr (Or.inl q))
    · exact Or.inl (Or.inr (Or.inr (Or.inl q)))
    · rcases (h3 i j k a1 a2 a3).mp a7 with r | ⟨r1, r2, r3⟩
      · exact Or.inl (Or.inr (Or.inr (Or.inr ⟨e, i, j, k, a1, a2, a3, a4, a5, a6, r, a8⟩)))
      · subst r1; subst r2; subst r3; exact Or.inr ⟨e, a8⟩
  · rintro ((q | q | q | ⟨e, i, j, k, a1, a2, a3, a4, a5, a6, a7, a8⟩) | ⟨e, q⟩)
    · exact Or.inl q
    · exact Or.inr (Or.inl q)
    · exact Or.inr (Or.inr (Or.inl q))
    · exact Or.inr (Or.inr (Or.inr ⟨e, i, j, k, a1, a2, a3, a4, a5, a6, (h3 i j k a1 a2 a3).mpr (Or.inl a7), a8⟩))
    · exact Or.inr (Or.inr (Or.inr ⟨e, i0, j0, k0, hij, hjk, hk, f0, f1, f2, (h3 i0 j0 k0 hij hjk hk).mpr (Or.inr ⟨rfl, rfl, rfl⟩), q⟩))
theorem sg_step {wk : Int32 → Prop} {V V' : Int32 → Int32 → Prop} {s : Int32 × Int32} {t7 : Nat → Int32} {set_ many bit : Int32} (h : Sg wk V s) (h0 : 0 ≤ set_) (hw : (mf_tries_L46 a t7 Wd R n ((a 3) ^^^ set_) &&& bit) = 0 ↔ ¬ wk set_) (hV : ∀ c t, V' c t ↔ V c t ∨ (c = many ∧ t = set_)) : Sg wk V' (mf_tries s.1 s.2 a t7 Wd R set_ many bit n) := by
  have hJ : (s.1 = -1 ∨ many < s.2 ∨ (many = s.2 ∧ set_ < s.1)) → Sg wk V' (mf_tries_J33 s.1 s.2 a t7 Wd R set_ many bit n) := fun hb => by
    unfold mf_tries_J33 zlet
    dsimp only
    by_cases c : (mf_tries_L46 a t7 Wd R n ((a 3) ^^^ set_) &&& bit) = 0
    · rw [if_pos c]; exact sg_keep h (hw.mp c) hV
    · rw [if_neg c]; exact sg_take h h0 (Classical.byContradiction fun z => c (hw.mpr z)) hb hV
  unfold mf_tries
  by_cases c : s.1 = -1
  · rw [if_pos c]; exact hJ (Or.inl c)
  · rw [if_neg c]
    by_cases d : s.2 < many
    · rw [if_pos d]; exact sg_stay h c (Or.inl d) hV
    · rw [if_neg d]
      by_cases e : many = s.2
      · rw [if_pos e]
        by_cases f : set_ < s.1
        · rw [if_pos f]; exact hJ (Or.inr (Or.inr ⟨e, f⟩))
        · rw [if_neg f]; exact sg_stay h c (Or.inr ⟨e.symm, Int32.not_lt.mp f⟩) hV
      · rw [if_neg e]
        refine hJ (Or.inr (Or.inl ?_))
        rcases Int32.lt_or_le many s.2 with q | q
        · exact q
        · exact absurd (Int32.le_antisymm (Int32.not_lt.mp d) q) e
theorem sg_m3 {wk : Int32 → Prop} {x y nn : Int32} {t7 : Nat → Int32} {k l : Nat} {p2 p3 : Int32} (hw : ∀ s, (mf_tries_L46 a t7 Wd R nn.toNatClampNeg ((a 3) ^^^ s) &&& mf_bitOf Wd x y) = 0 ↔ ¬ wk s) (h30 : Wd * R ≤ 30) (hkl : k < l) (hl : l < Wd * R) (fk : bt (mf_free a) k = true) (fl : bt (mf_free a) l = true) (P1 : Nat → Prop) (P2 : Nat → Nat → Prop) (d : Nat × Int32 × Int32) : ∀ n m s, Wd * R - m < n → l < m → m ≤ Wd * R → Sg wk (vS (mf_free a) (Wd * R) P1 P2 (fun i j q => i < k ∨ (i = k ∧ (j < l ∨ (j = l ∧ q < m))))) s → Sg wk (vS (mf_free a) (Wd * R) P1 P2 (fun i j q => i < k ∨ (i = k ∧ j < l + 1))) (zw (mf_signal_B167 a Wd R x y nn t7 k (l, p2, p3)) d n (m, s.1, s.2)).2 := by
  intro n
  induction n with
  | zero => intro m s h; exact absurd h (Nat.not_lt_zero _)
  | succ n ih =>
    intro m s h hlm hm hS
    by_cases c : Wd * R ≤ m
    · have e : m = Wd * R := Nat.le_antisymm hm c
      subst e
      rw [zw_r (show mf_signal_B167 a Wd R x y nn t7 k (l, p2, p3) (Wd * R, s.1, s.2) = .inr (Wd * R, s.1, s.2) by unfold mf_signal_B167; dsimp only; rw [if_pos c])]
      exact sg_same hS (vS_same (fun _ _ _ => Iff.rfl) (fun _ _ _ _ _ _ => Iff.rfl) (fun i j q _ _ _ _ _ _ => by omega))
    · by_cases f : (((mf_free a) >>> (nI m &&& 31)) &&& 1) = 1
      · have fm := (t_bt (show m < 32 by omega)).mp f
        have st := sg_step (many := 3) (set_ := (b1 k ||| b1 l) ||| b1 m) hS (((s3_nn m (by omega)).2 l hlm).2 k hkl) (hw _) (V' := vS (mf_free a) (Wd * R) P1 P2 (fun i j q => i < k ∨ (i = k ∧ (j < l ∨ (j = l ∧ q < m + 1))))) (vS_3 hkl hlm (by omega) fk fl fm (fun i j q _ _ _ => by omega))
        rw [zw_l (show mf_signal_B167 a Wd R x y nn t7 k (l, p2, p3) (m, s.1, s.2) = .inl (m + 1, (mf_tries s.1 s.2 a t7 Wd R ((b1 k ||| b1 l) ||| b1 m) 3 (mf_bitOf Wd x y) nn.toNatClampNeg).1, (mf_tries s.1 s.2 a t7 Wd R ((b1 k ||| b1 l) ||| b1 m) 3 (mf_bitOf Wd x y) nn.toNatClampNeg).2) by unfold mf_signal_B167 zlet; dsimp only; rw [if_neg c, if_pos f]; rfl)]
        exact ih (m + 1) _ (by omega) (by omega) (by omega) st
      · have fm : ¬ bt (mf_free a) m = true := fun q => f ((t_bt (show m < 32 by omega)).mpr q)
        rw [zw_l (show mf_signal_B167 a Wd R x y nn t7 k (l, p2, p3) (m, s.1, s.2) = .inl (m + 1, s.1, s.2) by unfold mf_signal_B167; dsimp only; rw [if_neg c, if_neg f])]
        refine ih (m + 1) s (by omega) (by omega) (by omega) (sg_same hS (vS_same (fun _ _ _ => Iff.rfl) (fun _ _ _ _ _ _ => Iff.rfl) (fun i j q _ _ _ _ _ fq => ?_)))
        have hq : ¬ q = m := fun z => fm (by rw [← z]; exact fq)
        omega
theorem sg_m2 {wk : Int32 → Prop} {x y nn : Int32} {t7 : Nat → Int32} {k : Nat} (hw : ∀ s, (mf_tries_L46 a t7 Wd R nn.toNatClampNeg ((a 3) ^^^ s) &&& mf_bitOf Wd x y) = 0 ↔ ¬ wk s) (h30 : Wd * R ≤ 30) (hk : k < Wd * R) (fk : bt (mf_free a) k = true) (P1 : Nat → Prop) (d : Nat × Int32 × Int32) : ∀ n l s, Wd * R - l < n → k < l → l ≤ Wd * R → Sg wk (vS (mf_free a) (Wd * R) P1 (fun i j => i < k ∨ (i = k ∧ j < l)) (fun i j q => i < k ∨ (i = k ∧ j < l))) s → Sg wk (vS (mf_free a) (Wd * R) P1 (fun i j => i < k + 1) (fun i j q => i < k + 1)) (zw (mf_signal_B122 a Wd R x y nn t7 k) d n (l, s.1, s.2)).2 := by
  intro n
  induction n with
  | zero => intro l s h; exact absurd h (Nat.not_lt_zero _)
  | succ n ih =>
    intro l s h hkl hl hS
    by_cases c : Wd * R ≤ l
    · have e : l = Wd * R := Nat.le_antisymm hl c
      subst e
      rw [zw_r (show mf_signal_B122 a Wd R x y nn t7 k (Wd * R, s.1, s.2) = .inr (Wd * R, s.1, s.2) by unfold mf_signal_B122; dsimp only; rw [if_pos c])]
      exact sg_same hS (vS_same (fun _ _ _ => Iff.rfl) (fun i j _ _ _ _ => by omega) (fun i j q _ _ _ _ _ _ => by omega))
    · by_cases f : (((mf_free a) >>> (nI l &&& 31)) &&& 1) = 0
      · have fl : ¬ bt (mf_free a) l = true := fun q => by
          have := (t_bt (show l < 32 by omega)).mpr q
          rw [f] at this
          exact absurd this (by decide)
        rw [zw_l (show mf_signal_B122 a Wd R x y nn t7 k (l, s.1, s.2) = .inl (l + 1, s.1, s.2) by unfold mf_signal_B122; dsimp only; rw [if_neg c, if_pos f])]
        refine ih (l + 1) s (by omega) (by omega) (by omega) (sg_same hS (vS_same (fun _ _ _ => Iff.rfl) (fun i j _ _ _ fj => ?_) (fun i j q _ _ _ _ fj _ => ?_)))
        · have hj : ¬ j = l := fun z => fl (by rw [← z]; exact fj)
          omega
        · have hj : ¬ j = l := fun z => fl (by rw [← z]; exact fj)
          omega
      · have fl := (t_bt (show l < 32 by omega)).mp ((z_b01 _).resolve_left f)
        have st := sg_step (many := 2) (set_ := b1 k ||| b1 l) hS ((s3_nn l (by omega)).2 k hkl).1 (hw _) (V' := vS (mf_free a) (Wd * R) P1 (fun i j => i < k ∨ (i = k ∧ j < l + 1)) (fun i j q => i < k ∨ (i = k ∧ j < l))) (vS_2 hkl (by omega) fk fl (fun i j _ _ => by omega))
        have s3 := sg_m3 (p2 := s.1) (p3 := s.2) hw h30 hkl (show l < Wd * R by omega) fk fl P1 (fun i j => i < k ∨ (i = k ∧ j < l + 1)) (l + 1, (mf_tries s.1 s.2 a t7 Wd R (b1 k ||| b1 l) 2 (mf_bitOf Wd x y) nn.toNatClampNeg).1, (mf_tries s.1 s.2 a t7 Wd R (b1 k ||| b1 l) 2 (mf_bitOf Wd x y) nn.toNatClampNeg).2) ((Wd * R - (l + 1)) + 1) (l + 1) _ (Nat.lt_succ_self _) (Nat.lt_succ_self _) (by omega) (sg_same st (vS_same (fun _ _ _ => Iff.rfl) (fun _ _ _ _ _ _ => Iff.rfl) (fun i j q _ _ _ _ _ _ => by omega)))
        rw [zw_l (show mf_signal_B122 a Wd R x y nn t7 k (l, s.1, s.2) = .inl (l + 1, (zw (mf_signal_B167 a Wd R x y nn t7 k (l, s.1, s.2)) (l + 1, (mf_tries s.1 s.2 a t7 Wd R (b1 k ||| b1 l) 2 (mf_bitOf Wd x y) nn.toNatClampNeg).1, (mf_tries s.1 s.2 a t7 Wd R (b1 k ||| b1 l) 2 (mf_bitOf Wd x y) nn.toNatClampNeg).2) ((Wd * R - (l + 1)) + 1) (l + 1, (mf_tries s.1 s.2 a t7 Wd R (b1 k ||| b1 l) 2 (mf_bitOf Wd x y) nn.toNatClampNeg).1, (mf_tries s.1 s.2 a t7 Wd R (b1 k ||| b1 l) 2 (mf_bitOf Wd x y) nn.toNatClampNeg).2)).2) by unfold mf_signal_B122 zlet; dsimp only; rw [if_neg c, if_neg f]; rfl)]
        exact ih (l + 1) _ (by omega) (by omega) (by omega) s3
theorem sg_m1 {wk : Int32 → Prop} {x y nn : Int32} {t7 : Nat → Int32} (hw : ∀ s, (mf_tries_L46 a t7 Wd R nn.toNatClampNeg ((a 3) ^^^ s) &&& mf_bitOf Wd x y) = 0 ↔ ¬ wk s) (h30 : Wd * R ≤ 30) {s : Int32 × Int32} (hS : Sg wk (vS (mf_free a) (Wd * R) (fun i => i < 0) (fun i j => i < 0) (fun i j q => i < 0)) s) : ∀ k, k ≤ Wd * R → Sg wk (vS (mf_free a) (Wd * R) (fun i => i < k) (fun i j => i < k) (fun i j q => i < k)) (zf (mf_signal_B82 a Wd R x y nn t7) s k)
  | 0, _ => hS
  | k + 1, hk => by
    have i1 := sg_m1 hw h30 hS k (by omega)
    show Sg wk _ (mf_signal_B82 a Wd R x y nn t7 k (zf (mf_signal_B82 a Wd R x y nn t7) s k))
    generalize zf (mf_signal_B82 a Wd R x y nn t7) s k = s' at i1 ⊢
    unfold mf_signal_B82 zlet mf_signal_L122
    dsimp only
    by_cases f : (((mf_free a) >>> (nI k &&& 31)) &&& 1) = 0
    · rw [if_pos f]
      have fk : ¬ bt (mf_free a) k = true := fun q => by
        have := (t_bt (show k < 32 by omega)).mpr q
        rw [f] at this
        exact absurd this (by decide)
      refine sg_same (s := (s'.1, s'.2)) i1 (vS_same (fun i _ fi => ?_) (fun i j _ _ fi _ => ?_) (fun i j q _ _ _ fi _ _ => ?_))
      all_goals
        have hi : ¬ i = k := fun z => fk (by rw [← z]; exact fi)
        omega
    · rw [if_neg f]
      have fk := (t_bt (show k < 32 by omega)).mp ((z_b01 _).resolve_left f)
      have st := sg_step (many := 1) (set_ := b1 k) i1 (s3_nn k (by omega)).1 (hw _) (V' := vS (mf_free a) (Wd * R) (fun i => i < k + 1) (fun i j => i < k) (fun i j q => i < k)) (vS_1 (by omega) fk (fun i _ => by omega))
      exact sg_m2 hw h30 (show k < Wd * R by omega) fk (fun i => i < k + 1) _ ((Wd * R - (k + 1)) + 1) (k + 1) _ (Nat.lt_succ_self _) (Nat.lt_succ_self _) (by omega) (sg_same st (vS_same (fun _ _ _ => Iff.rfl) (fun i j _ _ _ _ => by omega) (fun i j q _ _ _ _ _ _ => by omega)))
/-- all the sets -/
def vA (fr : Int32) (N : Nat) (c u : Int32) : Prop := vS fr N (fun _ => True) (fun _ _ => True) (fun _ _ _ => True) c u
theorem sg_fin {wk : Int32 → Prop} {N : Nat} {s : Int32 × Int32} {c0 t0 : Int32} (h : Sg wk (vA fr N) s) (hlow : ∀ c u, c < c0 → vA fr N c u → ¬ wk u) (h1 : vA fr N c0 t0) (h2 : wk t0) (h3 : ∀ u, vA fr N c0 u → wk u → t0 ≤ u) : s = (t0, c0) := by
  rcases h with ⟨_, q⟩ | ⟨q1, q2, q3, q4⟩
  · exact absurd h2 (q c0 t0 h1)
  · rcases q4 c0 t0 h1 h2 with z | ⟨z1, z2⟩
    · exact absurd q3 (hlow _ _ z q2)
    · rw [z1] at q2
      have e := Int32.le_antisymm z2 (h3 _ q2 q3)
      exact Prod.ext e z1
theorem vA_c {N : Nat} {c u : Int32} (h : vA fr N c u) : c = 0 ∨ c = 1 ∨ c = 2 ∨ c = 3 := by
  rcases h with ⟨e, _⟩ | ⟨e, _⟩ | ⟨e, _⟩ | ⟨e, _⟩
  · exact Or.inl e
  · exact Or.inr (Or.inl e)
  · exact Or.inr (Or.inr (Or.inl e))
  · exact Or.inr (Or.inr (Or.inr e))
theorem vA_1 {N : Nat} (u : Int32) : vF fr N 0 N (fun j u => u = 0 ||| b1 j) u ↔ vA fr N 1 u := by
  constructor
  · rintro ⟨j, _, h2, h3, h4, h5⟩
    exact Or.inr (Or.inl ⟨rfl, j, h3, h4, trivial, by rw [h5, Int32.zero_or]⟩)
  · rintro (⟨e, _⟩ | ⟨_, i, a1, a2, _, a4⟩ | ⟨e, _⟩ | ⟨e, _⟩)
    · exact absurd e (by decide)
    · exact ⟨i, Nat.zero_le _, a1, a1, a2, by show u = 0 ||| b1 i; rw [Int32.zero_or]; exact a4⟩
    · exact absurd e (by decide)
    · exact absurd e (by decide)
theorem vA_2 {N : Nat} (u : Int32) : vF fr N 0 N (fun i u => vF fr N (i + 1) N (fun j u => u = (0 ||| b1 i) ||| b1 j) u) u ↔ vA fr N 2 u := by
  constructor
  · rintro ⟨i, _, h2, h3, h4, j, g1, g2, g3, g4, g5⟩
    exact Or.inr (Or.inr (Or.inl ⟨rfl, i, j, by omega, g3, h4, g4, trivial, by rw [g5, Int32.zero_or]⟩))
  · rintro (⟨e, _⟩ | ⟨e, _⟩ | ⟨_, i, j, a1, a2, a3, a4, _, a6⟩ | ⟨e, _⟩)
    · exact absurd e (by decide)
    · exact absurd e (by decide)
    · exact ⟨i, Nat.zero_le _, by omega, by omega, a3, j, by omega, a2, a2, a4, by show u = (0 ||| b1 i) ||| b1 j; rw [Int32.zero_or]; exact a6⟩
    · exact absurd e (by decide)
theorem vA_3 {N : Nat} (u : Int32) : vF fr N 0 N (fun i u => vF fr N (i + 1) N (fun j u => vF fr N (j + 1) N (fun k u => u = ((0 ||| b1 i) ||| b1 j) ||| b1 k) u) u) u ↔ vA fr N 3 u := by
  constructor
  · rintro ⟨i, _, h2, h3, h4, j, g1, g2, g3, g4, k, f1, f2, f3, f4, f5⟩
    exact Or.inr (Or.inr (Or.inr ⟨rfl, i, j, k, by omega, by omega, f3, h4, g4, f4, trivial, by rw [f5, Int32.zero_or]⟩))
  · rintro (⟨e, _⟩ | ⟨e, _⟩ | ⟨e, _⟩ | ⟨_, i, j, k, a1, a2, a3, a4, a5, a6, _, a8⟩)
    · exact absurd e (by decide)
    · exact absurd e (by decide)
    · exact absurd e (by decide)
    · exact ⟨i, Nat.zero_le _, by omega, by omega, a4, j, by omega, by omega, by omega, a5, k, by omega, a3, a3, a6, by show u = ((0 ||| b1 i) ||| b1 j) ||| b1 k; rw [Int32.zero_or]; exact a8⟩
theorem rr_signal {bs bm mt mm x y nn what : Int32} (h : pH a Wd R nr ulit umayor unight uoil uborn ustays useen thouses talways tnever tbeside) (hW0 : 1 ≤ Wd) (hW5 : Wd ≤ 5) (hR0 : 1 ≤ R) (hR6 : R ≤ 6) (h30 : Wd * R ≤ 30) : (xf_signal bs bm ulit umayor uborn ustays Wd R thouses talways tnever tbeside x y nn what).1 = (mf_signal mt mm a b Wd R x y nn what).1 ∧ (xf_signal bs bm ulit umayor uborn ustays Wd R thouses talways tnever tbeside x y nn what).2.1 = (mf_signal mt mm a b Wd R x y nn what).2.1 := by
  have e1 : xf_isIn what.toInt64 0 1 = true ↔ (¬ what < 0 ∧ ¬ 1 < what) := r_in2 (x := what) (N := 1) (by decide)
  unfold xf_signal mf_signal
  rw [r_in, r_wrongHouse h.1 hW0 hW5 hR0 hR6]
  by_cases c : xf_isIn nn.toInt64 0 30 = true
  case neg => rw [if_neg c, if_neg c]; exact ⟨rfl, rfl⟩
  rw [if_pos c, if_pos c]
  by_cases d : what < 0
  · rw [if_pos d, if_neg (fun q => (e1.mp q).1 d)]; exact ⟨rfl, rfl⟩
  rw [if_neg d]
  by_cases e : what ≤ 1
  case neg => rw [if_neg e, if_neg (fun q => (e1.mp q).2 (Int32.not_le.mp e))]; exact ⟨rfl, rfl⟩
  rw [if_pos e, if_pos (e1.mpr ⟨d, Int32.not_lt.mpr e⟩)]
  by_cases f : xf_whyNoHouse Wd R thouses x y ≤ 0
  case neg => rw [if_neg f, if_neg f]; exact ⟨rfl, rfl⟩
  rw [if_pos f, if_pos f]
  -- the model
  generalize hcl : nI Wd * y + x = cl
  generalize hnt : nn.toNatClampNeg = n
  have hw : ∀ s, (mf_tries_L46 a (mf_laysNear a b Wd R) Wd R nn.toNatClampNeg ((a 3) ^^^ s) &&& mf_bitOf Wd x y) = 0 ↔ ¬ wkS ulit umayor uborn ustays Wd R thouses talways tnever tbeside cl n s := fun s => by
    have ea : mf_tries_L46 a (mf_laysNear a b Wd R) Wd R nn.toNatClampNeg ((a 3) ^^^ s) = hf_after umayor uborn ustays Wd R thouses talways tnever tbeside (ulit ^^^ s) n := by
      rw [← r_after (b := b) h, h.2.1, hnt]; rfl
    unfold wkS mf_bitOf
    rw [ea, hcl, i_tst1]
    exact ⟨fun q z => z q, fun q => Classical.byContradiction q⟩
  have hfr : mf_free a = thouses &&& ((talways ||| tnever) ^^^ (-1)) := r_free h.1
  have hm0 : Sg (wkS ulit umayor uborn ustays Wd R thouses talways tnever tbeside cl n) (vS (mf_free a) (Wd * R) (fun i => i < 0) (fun i j => i < 0) (fun i j q => i < 0)) (mf_tries (-1) mm a (mf_laysNear a b Wd R) Wd R 0 0 (mf_bitOf Wd x y) nn.toNatClampNeg) :=
    sg_step (s := (-1, mm)) (V := fun _ _ => False) (Or.inl ⟨rfl, fun _ _ q => q.elim⟩) (by decide) (hw 0) (fun c t => by
      constructor
      · rintro (q | ⟨_, i, _, _, q, _⟩ | ⟨_, i, j, _, _, _, _, q, _⟩ | ⟨_, i, j, k, _, _, _, _, _, _, q, _⟩)
        · exact Or.inr q
        · omega
        · omega
        · omega
      · rintro (q | q)
        · exact q.elim
        · exact Or.inl q)
  have hm := sg_same (V' := vA (mf_free a) (Wd * R)) (sg_m1 hw h30 hm0 (Wd * R) (Nat.le_refl _)) (vS_same (fun i q _ => ⟨fun _ => q, fun _ => trivial⟩) (fun i j q1 q2 _ _ => ⟨fun _ => by omega, fun _ => trivial⟩) (fun i j k q1 q2 q3 _ _ _ => ⟨fun _ => by omega, fun _ => trivial⟩))
  rw [hnt] at hm
  have hm2 : Sg (wkS ulit umayor uborn ustays Wd R thouses talways tnever tbeside cl n) (vA (mf_free a) (Wd * R)) (zf (mf_signal_B82 a Wd R x y nn (mf_laysNear a b Wd R)) ((mf_tries (-1) mm a (mf_laysNear a b Wd R) Wd R 0 0 (mf_bitOf Wd x y) n).1, (mf_tries (-1) mm a (mf_laysNear a b Wd R) Wd R 0 0 (mf_bitOf Wd x y) n).2) (Wd * R)) := hm
  clear hm hm0
  unfold mf_signal_L82 zlet
  dsimp only
  generalize zf (mf_signal_B82 a Wd R x y nn (mf_laysNear a b Wd R)) ((mf_tries (-1) mm a (mf_laysNear a b Wd R) Wd R 0 0 (mf_bitOf Wd x y) n).1, (mf_tries (-1) mm a (mf_laysNear a b Wd R) Wd R 0 0 (mf_bitOf Wd x y) n).2) (Wd * R) = s at hm2 ⊢
  -- the system
  have nn0 : ∀ i, 0 ≤ i → i < Wd * R → 0 ≤ (0 : Int32) ||| b1 i := fun i _ hi => by rw [Int32.zero_or]; exact (s3_nn i (by omega)).1
  have nn1 : ∀ i j, 0 ≤ i → i < j → j < Wd * R → 0 ≤ ((0 : Int32) ||| b1 i) ||| b1 j := fun i j _ hij hj => by rw [Int32.zero_or]; exact ((s3_nn j (by omega)).2 i hij).1
  have nn2 : ∀ i j k, 0 ≤ i → i < j → j < k → k < Wd * R → 0 ≤ (((0 : Int32) ||| b1 i) ||| b1 j) ||| b1 k := fun i j k _ hij hjk hk => by rw [Int32.zero_or]; exact (((s3_nn k (by omega)).2 j hjk).2 i hij)
  have S0 := sx_t0 (ulit := ulit) (umayor := umayor) (uborn := uborn) (ustays := ustays) (Wd := Wd) (R := R) (thouses := thouses) (talways := talways) (tnever := tnever) (tbeside := tbeside) (cl := cl) (n := n) (V := fun _ => False) (V' := fun u => u = 0) (t := -1) (set_ := 0) (Or.inl ⟨by decide, fun _ q => q.elim⟩) (by decide) (fun u => ⟨Or.inr, fun q => q.elim False.elim id⟩)
  have S1 := sx_t1 (V' := fun u => u = 0 ∨ vA (mf_free a) (Wd * R) 1 u) (set_ := 0) (fro := 0) hfr (by omega) (Nat.zero_le _) S0 nn0 (fun u => by rw [vA_1])
  have S2 := sx_t2 (V' := fun u => (u = 0 ∨ vA (mf_free a) (Wd * R) 1 u) ∨ vA (mf_free a) (Wd * R) 2 u) (set_ := 0) (fro := 0) hfr (by omega) (Nat.zero_le _) S1 nn1 (fun u => by rw [vA_2])
  have S3 := sx_t3 (V' := fun u => ((u = 0 ∨ vA (mf_free a) (Wd * R) 1 u) ∨ vA (mf_free a) (Wd * R) 2 u) ∨ vA (mf_free a) (Wd * R) 3 u) (set_ := 0) (fro := 0) hfr (by omega) (Nat.zero_le _) S2 nn2 (fun u => by rw [vA_3])
  have out : ∀ T c0 : Int32, 0 ≤ T → 0 ≤ c0 → s = (T, c0) → (if what = 0 then ((xf_answer c0).1, (xf_answer c0).2, T, c0) else ((xf_answer T).1, (xf_answer T).2, T, c0)).1 = (if s.1 = -1 then ((-1 : Int32), (6 : Int32), s.1, s.2, mf_laysNear a b Wd R) else if what = 0 then (s.2, 0, s.1, s.2, mf_laysNear a b Wd R) else (s.1, 0, s.1, s.2, mf_laysNear a b Wd R)).1 ∧ (if what = 0 then ((xf_answer c0).1, (xf_answer c0).2, T, c0) else ((xf_answer T).1, (xf_answer T).2, T, c0)).2.1 = (if s.1 = -1 then ((-1 : Int32), (6 : Int32), s.1, s.2, mf_laysNear a b Wd R) else if what = 0 then (s.2, 0, s.1, s.2, mf_laysNear a b Wd R) else (s.1, 0, s.1, s.2, mf_laysNear a b Wd R)).2.1 := fun T c0 hT hc he => by
    subst he
    have hne : ¬ T = -1 := fun z => by rw [z] at hT; exact absurd hT (by decide)
    unfold xf_answer
    dsimp only
    rw [if_neg hne, if_pos hT, if_pos hc]
    by_cases w : what = 0
    · rw [if_pos w, if_pos w]; exact ⟨rfl, rfl⟩
    · rw [if_neg w, if_neg w]; exact ⟨rfl, rfl⟩
  have L0 : ∀ c u : Int32, c < 0 → vA (mf_free a) (Wd * R) c u → False := fun c u q v => by
    rcases vA_c v with z | z | z | z <;> rw [z] at q <;> exact absurd q (by decide)
  generalize xf_tries0 (-1) ulit umayor uborn ustays Wd R thouses talways tnever tbeside cl n 0 = T0 at S0 S1 S2 S3 ⊢
  by_cases g0 : 0 ≤ T0
  · rw [if_pos g0]
    rcases S0 with ⟨q, _⟩ | ⟨_, q2, q3, q4⟩
    · exact absurd g0 (Int32.not_le.mpr q)
    · have q2 : T0 = 0 := q2
      refine out T0 0 g0 (by decide) (sg_fin hm2 (fun c u q v => (L0 c u q v).elim) (Or.inl ⟨rfl, q2⟩) q3 (fun u v _ => ?_))
      rcases v with ⟨_, z⟩ | ⟨z, _⟩ | ⟨z, _⟩ | ⟨z, _⟩
      · rw [q2, z]; exact Int32.le_refl _
      · exact absurd z (by decide)
      · exact absurd z (by decide)
      · exact absurd z (by decide)
  rw [if_neg g0]
  have H0 : ∀ u, vA (mf_free a) (Wd * R) 0 u → ¬ wkS ulit umayor uborn ustays Wd R thouses talways tnever tbeside cl n u := fun u v => by
    rcases S0 with ⟨_, q⟩ | ⟨q, _⟩
    · rcases v with ⟨_, z⟩ | ⟨z, _⟩ | ⟨z, _⟩ | ⟨z, _⟩
      · exact q u z
      · exact absurd z (by decide)
      · exact absurd z (by decide)
      · exact absurd z (by decide)
    · exact absurd q g0
  have H00 : ¬ wkS ulit umayor uborn ustays Wd R thouses talways tnever tbeside cl n 0 := H0 0 (Or.inl ⟨rfl, rfl⟩)
  have L1 : ∀ c u : Int32, c < 1 → vA (mf_free a) (Wd * R) c u → ¬ wkS ulit umayor uborn ustays Wd R thouses talways tnever tbeside cl n u := fun c u q v => by
    rcases vA_c v with z | z | z | z
    · rw [z] at v; exact H0 u v
    all_goals (rw [z] at q; exact absurd q (by decide))
  generalize xf_tries1 T0 ulit umayor uborn ustays Wd R thouses talways tnever tbeside cl n 0 0 = T1 at S1 S2 S3 ⊢
  by_cases g1 : 0 ≤ T1
  · rw [if_pos g1]
    rcases S1 with ⟨q, _⟩ | ⟨_, q2, q3, q4⟩
    · exact absurd g1 (Int32.not_le.mpr q)
    · have q2 : vA (mf_free a) (Wd * R) 1 T1 := q2.elim (fun z => by rw [z] at q3; exact absurd q3 H00) id
      exact out T1 1 g1 (by decide) (sg_fin hm2 L1 q2 q3 (fun u v w => q4 u (Or.inr v) w))
  rw [if_neg g1]
  have H1 : ∀ u, vA (mf_free a) (Wd * R) 1 u → ¬ wkS ulit umayor uborn ustays Wd R thouses talways tnever tbeside cl n u := fun u v => by
    rcases S1 with ⟨_, q⟩ | ⟨q, _⟩
    · exact q u (Or.inr v)
    · exact absurd q g1
  have L2 : ∀ c u : Int32, c < 2 → vA (mf_free a) (Wd * R) c u → ¬ wkS ulit umayor uborn ustays Wd R thouses talways tnever tbeside cl n u := fun c u q v => by
    rcases vA_c v with z | z | z | z
    · rw [z] at v; exact H0 u v
    · rw [z] at v; exact H1 u v
    all_goals (rw [z] at q; exact absurd q (by decide))
  generalize xf_tries2 T1 ulit umayor uborn ustays Wd R thouses talways tnever tbeside cl n 0 0 = T2 at S2 S3 ⊢
  by_cases g2 : 0 ≤ T2
  · rw [if_pos g2]
    rcases S2 with ⟨q, _⟩ | ⟨_, q2, q3, q4⟩
    · exact absurd g2 (Int32.not_le.mpr q)
    · have q2 : vA (mf_free a) (Wd * R) 2 T2 := q2.elim (fun z => z.elim (fun z => by rw [z] at q3; exact absurd q3 H00) (fun z => absurd q3 (H1 _ z))) id
      exact out T2 2 g2 (by decide) (sg_fin hm2 L2 q2 q3 (fun u v w => q4 u (Or.inr v) w))
  rw [if_neg g2]
  have H2 : ∀ u, vA (mf_free a) (Wd * R) 2 u → ¬ wkS ulit umayor uborn ustays Wd R thouses talways tnever tbeside cl n u := fun u v => by
    rcases S2 with ⟨_, q⟩ | ⟨q, _⟩
    · exact q u (Or.inr v)
    · exact absurd q g2
  have L3 : ∀ c u : Int32, c < 3 → vA (mf_free a) (Wd * R) c u → ¬ wkS ulit umayor uborn ustays Wd R thouses talways tnever tbeside cl n u := fun c u q v => by
    rcases vA_c v with z | z | z | z
    · rw [z] at v; exact H0 u v
    · rw [z] at v; exact H1 u v
    · rw [z] at v; exact H2 u v
    · rw [z] at q; exact absurd q (by decide)
  generalize xf_tries3 T2 ulit umayor uborn ustays Wd R thouses talways tnever tbeside cl n 0 0 = T3 at S3 ⊢
  by_cases g3 : 0 ≤ T3
  · rw [if_pos g3]
    rcases S3 with ⟨q, _⟩ | ⟨_, q2, q3, q4⟩
    · exact absurd g3 (Int32.not_le.mpr q)
    · have q2 : vA (mf_free a) (Wd * R) 3 T3 := q2.elim (fun z => z.elim (fun z => z.elim (fun z => by rw [z] at q3; exact absurd q3 H00) (fun z => absurd q3 (H1 _ z))) (fun z => absurd q3 (H2 _ z))) id
      exact out T3 3 g3 (by decide) (sg_fin hm2 L3 q2 q3 (fun u v w => q4 u (Or.inr v) w))
  rw [if_neg g3]
  have H3 : ∀ u, vA (mf_free a) (Wd * R) 3 u → ¬ wkS ulit umayor uborn ustays Wd R thouses talways tnever tbeside cl n u := fun u v => by
    rcases S3 with ⟨_, q⟩ | ⟨q, _⟩
    · exact q u (Or.inr v)
    · exact absurd q g3
  rcases hm2 with ⟨q, _⟩ | ⟨q1, q2, q3, q4⟩
  · rw [if_pos q, r_answer (Or.inl rfl)]; exact ⟨rfl, rfl⟩
  · rcases vA_c q2 with z | z | z | z <;> rw [z] at q2
    · exact absurd q3 (H0 _ q2)
    · exact absurd q3 (H1 _ q2)
    · exact absurd q3 (H2 _ q2)
    · exact absurd q3 (H3 _ q2)
end R14
