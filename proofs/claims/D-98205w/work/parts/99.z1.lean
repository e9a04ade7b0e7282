/-! r15: in how many ways rows stand up to each -/
theorem if_iff {α : Type} {p q : Prop} [Decidable p] [Decidable q] {x y : α} (h : p ↔ q) : (if p then x else y) = if q then x else y := by
  by_cases c : p
  · rw [if_pos c, if_pos (h.mp c)]
  · rw [if_neg c, if_neg (fun z => c (h.mpr z))]
/-- so many ways: the row above a, the row b, at row y -/
def wN (F : Nat → Nat → Bool) (Gd : Nat → Nat → Nat → Nat → Bool) (N : Nat) : Nat → Nat → Nat → Nat
  | 0, a, b => if a = 0 ∧ F b 0 = true then 1 else 0
  | y + 1, b, c => if F c (y + 1) = true then zf (fun a s => s + (if Gd a b c y = true then wN F Gd N y a b else 0)) 0 N else 0
theorem sm_le {f : Nat → Nat} {M : Nat} : ∀ n, (∀ a, a < n → f a ≤ M) → zf (fun a s => s + f a) 0 n ≤ n * M
  | 0, _ => Nat.zero_le _
  | n + 1, h => by
    have i := sm_le (f := f) (M := M) n (fun a ha => h a (by omega))
    show zf (fun a s => s + f a) 0 n + f n ≤ (n + 1) * M
    have := h n (Nat.lt_succ_self _)
    rw [Nat.succ_mul]
    omega
theorem sm_pos {f : Nat → Nat} : ∀ n, 0 < zf (fun a s => s + f a) 0 n → ∃ a, a < n ∧ 0 < f a
  | 0, h => absurd h (Nat.lt_irrefl _)
  | n + 1, h => by
    have h : 0 < zf (fun a s => s + f a) 0 n + f n := h
    by_cases c : 0 < f n
    · exact ⟨n, Nat.lt_succ_self _, c⟩
    · obtain ⟨a, h1, h2⟩ := sm_pos (f := f) n (by omega)
      exact ⟨a, by omega, h2⟩
theorem sm_at {f : Nat → Nat} : ∀ n a, a < n → 0 < f a → 0 < zf (fun a s => s + f a) 0 n
  | 0, a, h, _ => absurd h (Nat.not_lt_zero _)
  | n + 1, a, h, q => by
    show 0 < zf (fun a s => s + f a) 0 n + f n
    by_cases c : a = n
    · subst c; omega
    · have := sm_at (f := f) n a (by omega) q
      omega
theorem sm_if {f : Nat → Nat} {p : Prop} [Decidable p] : ∀ n, zf (fun a s => s + (if p then f a else 0)) 0 n = if p then zf (fun a s => s + f a) 0 n else 0
  | 0 => by show 0 = if p then 0 else 0; split <;> rfl
  | n + 1 => by
    show zf (fun a s => s + (if p then f a else 0)) 0 n + (if p then f n else 0) = if p then zf (fun a s => s + f a) 0 n + f n else 0
    rw [sm_if n]
    split <;> rfl
theorem wN_le {F : Nat → Nat → Bool} {Gd : Nat → Nat → Nat → Nat → Bool} {N : Nat} (hN : N ≤ 32) : ∀ y a b, wN F Gd N y a b ≤ 32 ^ y
  | 0, a, b => by unfold wN; split <;> decide
  | y + 1, b, c => by
    unfold wN
    split
    · have h := sm_le (f := fun a => if Gd a b c y = true then wN F Gd N y a b else 0) (M := 32 ^ y) N (fun a _ => by
        split
        · exact wN_le hN y a b
        · exact Nat.zero_le _)
      rw [Nat.pow_succ, Nat.mul_comm]
      exact Nat.le_trans h (Nat.mul_le_mul_right _ hN)
    · exact Nat.zero_le _
theorem w32 : ∀ y, y < 6 → 32 ^ y ≤ 33554432 := by decide
theorem wN_lt {F : Nat → Nat → Bool} {Gd : Nat → Nat → Nat → Nat → Bool} {N y a b : Nat} (hN : N ≤ 32) (hy : y < 6) : wN F Gd N y a b < 2 ^ 31 := Nat.lt_of_le_of_lt (Nat.le_trans (wN_le hN y a b) (w32 y hy)) (by decide)
/-- what an array of ways holds -/
def pV (N : Nat) (s : Nat → Int64) (v : Nat → Nat → Nat) : Prop := ∀ k, k < 1024 → s k = lN (if k / 32 < N ∧ k % 32 < N then v (k / 32) (k % 32) else 0)
theorem pV_at {N a b : Nat} {s : Nat → Int64} {v : Nat → Nat → Nat} (h : pV N s v) (hN : N ≤ 32) (ha : a < N) (hb : b < N) : s (32 * a + b) = lN (v a b) := by
  have e1 : (32 * a + b) / 32 = a := by omega
  have e2 : (32 * a + b) % 32 = b := by omega
  have := h (32 * a + b) (by omega)
  rw [e1, e2, if_pos ⟨ha, hb⟩] at this
  exact this
theorem pV_upd {N a b x : Nat} {s : Nat → Int64} {v : Nat → Nat → Nat} (h : pV N s v) (hN : N ≤ 32) (ha : a < N) (hb : b < N) : pV N (vp_updL s (32 * a + b) (lN x)) (fun i j => if i = a ∧ j = b then x else v i j) := by
  intro k hk
  by_cases c : k = 32 * a + b
  · subst c
    have e1 : (32 * a + b) / 32 = a := by omega
    have e2 : (32 * a + b) % 32 = b := by omega
    rw [pk_uLs, e1, e2, if_pos ⟨ha, hb⟩]
    show lN x = lN (if a = a ∧ b = b then x else v a b)
    rw [if_pos ⟨rfl, rfl⟩]
  · rw [pk_uLn c, h k hk]
    by_cases d : k / 32 < N ∧ k % 32 < N
    · rw [if_pos d, if_pos d]
      show lN _ = lN (if k / 32 = a ∧ k % 32 = b then x else v (k / 32) (k % 32))
      rw [if_neg (by omega)]
    · rw [if_neg d, if_neg d]
theorem pV_e {N : Nat} {s : Nat → Int64} {v v' : Nat → Nat → Nat} (h : pV N s v) (e : ∀ i j, i < N → j < N → v' i j = v i j) : pV N s v' := by
  intro k hk
  rw [h k hk]
  by_cases d : k / 32 < N ∧ k % 32 < N
  · rw [if_pos d, if_pos d, e _ _ d.1 d.2]
  · rw [if_neg d, if_neg d]
section R15
variable {a b th : Nat → Int32} {Wd R nr nc : Nat}
/-- the model's row that can stand, the model's good row -/
def mFr (a : Nat → Int32) (Wd : Nat) (c y : Nat) : Bool := mf_fitsRow a Wd (nI c) (nI y)
def mGd (a : Nat → Int32) (Wd : Nat) (still : Bool) (i j k y : Nat) : Bool := mf_isGood a Wd (nI i) (nI j) (nI k) (nI y) still
abbrev mWy (a : Nat → Int32) (Wd : Nat) (still : Bool) : Nat → Nat → Nat → Nat := wN (mFr a Wd) (mGd a Wd still) (zpw Wd)
abbrev mSt : Type := Nat × (Nat → Int64) × (Nat → Int64) × (Nat → Int32)
theorem m180 {still : Bool} {s6 : mSt} {i j y w : Nat} {s : Nat → Int64} {v : Nat → Nat → Nat} (hN : zpw Wd ≤ 32) (hy : s6.1 = y + 1) (hj : j < zpw Wd) (hw : s6.2.1 (32 * i + j) = lN w) (h : pV (zpw Wd) s v) : ∀ n, n ≤ zpw Wd → pV (zpw Wd) (zf (mf_reckons_B180 a Wd still s6 i j) s n) (fun j' c => v j' c + (if j' = j ∧ c < n ∧ mFr a Wd c (y + 1) = true ∧ mGd a Wd still i j c y = true then w else 0))
  | 0, _ => pV_e h (fun i' j' _ _ => by show v i' j' + _ = v i' j'; rw [if_neg (fun q => absurd q.2.1 (Nat.not_lt_zero _))]; rfl)
  | n + 1, hn => by
    have ih := m180 (still := still) hN hy hj hw h n (by omega)
    show pV (zpw Wd) (mf_reckons_B180 a Wd still s6 i j n (zf (mf_reckons_B180 a Wd still s6 i j) s n)) _
    generalize zf (mf_reckons_B180 a Wd still s6 i j) s n = t at ih ⊢
    unfold mf_reckons_B180
    rw [hy, Nat.add_sub_cancel]
    by_cases c : mf_fitsRow a Wd (nI n) (nI (y + 1)) = true
    · rw [if_pos c]
      by_cases d : mf_isGood a Wd (nI i) (nI j) (nI n) (nI y) still = true
      · rw [if_pos d, hw, pV_at ih hN hj (by omega), lN_add]
        refine pV_e (pV_upd ih hN hj (show n < zpw Wd by omega)) (fun i' j' _ _ => ?_)
        try dsimp only
        by_cases e : i' = j ∧ j' = n
        · obtain ⟨e1, e2⟩ := e
          subst e1; subst e2
          rw [if_pos ⟨rfl, Nat.lt_succ_self _, c, d⟩, if_pos ⟨rfl, rfl⟩, if_neg (fun q => Nat.lt_irrefl _ q.2.1), Nat.add_zero]
        · rw [if_neg e]
          congr 1
          by_cases f : i' = j
          · have hne : ¬ j' = n := fun q => e ⟨f, q⟩
            exact if_iff ⟨fun q => ⟨q.1, by have := q.2.1; omega, q.2.2⟩, fun q => ⟨q.1, by have := q.2.1; omega, q.2.2⟩⟩
          · rw [if_neg (fun q => f q.1), if_neg (fun q => f q.1)]
      · rw [if_neg d]
        refine pV_e ih (fun i' j' _ _ => ?_)
        try dsimp only
        congr 1
        by_cases e : j' = n
        · subst e
          rw [if_neg (fun q => d q.2.2.2), if_neg (fun q => Nat.lt_irrefl _ q.2.1)]
        · exact if_iff ⟨fun q => ⟨q.1, by have := q.2.1; omega, q.2.2⟩, fun q => ⟨q.1, by have := q.2.1; omega, q.2.2⟩⟩
    · rw [if_neg c]
      refine pV_e ih (fun i' j' _ _ => ?_)
      try dsimp only
      congr 1
      by_cases e : j' = n
      · subst e
        rw [if_neg (fun q => c q.2.2.1), if_neg (fun q => Nat.lt_irrefl _ q.2.1)]
      · exact if_iff ⟨fun q => ⟨q.1, by have := q.2.1; omega, q.2.2⟩, fun q => ⟨q.1, by have := q.2.1; omega, q.2.2⟩⟩
theorem m150 {still : Bool} {s6 : mSt} {i y : Nat} {s : Nat → Int64} {v w : Nat → Nat → Nat} (hN : zpw Wd ≤ 32) (hy : s6.1 = y + 1) (hi : i < zpw Wd) (hw : pV (zpw Wd) s6.2.1 w) (hwl : ∀ i j, w i j < 2 ^ 31) (h : pV (zpw Wd) s v) : ∀ n, n ≤ zpw Wd → pV (zpw Wd) (zf (mf_reckons_B150 a Wd still s6 i) s n) (fun j c => v j c + (if j < n ∧ mFr a Wd c (y + 1) = true ∧ mGd a Wd still i j c y = true then w i j else 0))
  | 0, _ => pV_e h (fun i' j' _ _ => by show v i' j' + _ = v i' j'; rw [if_neg (fun q => absurd q.1 (Nat.not_lt_zero _))]; rfl)
  | n + 1, hn => by
    have ih := m150 (still := still) hN hy hi hw hwl h n (by omega)
    show pV (zpw Wd) (mf_reckons_B150 a Wd still s6 i n (zf (mf_reckons_B150 a Wd still s6 i) s n)) _
    generalize zf (mf_reckons_B150 a Wd still s6 i) s n = t at ih ⊢
    have hwn := pV_at hw hN hi (show n < zpw Wd by omega)
    unfold mf_reckons_B150 zlet mf_reckons_L180
    rw [hwn]
    by_cases c : lN (w i n) = 0
    · rw [if_pos c]
      have c0 : w i n = 0 := (lN_eq (hwl i n) (by decide)).mp c
      refine pV_e ih (fun j c' _ _ => ?_)
      try dsimp only
      congr 1
      by_cases e : j = n
      · subst e
        rw [c0]
        split <;> split <;> rfl
      · exact if_iff ⟨fun q => ⟨by have := q.1; omega, q.2⟩, fun q => ⟨by have := q.1; omega, q.2⟩⟩
    · rw [if_neg c]
      refine pV_e (m180 (a := a) (still := still) hN hy (show n < zpw Wd by omega) hwn ih (zpw Wd) (Nat.le_refl _)) (fun j c' _ hc => ?_)
      try dsimp only
      by_cases e : j = n
      · subst e
        rw [if_neg (show ¬ (j < j ∧ mFr a Wd c' (y + 1) = true ∧ mGd a Wd still i j c' y = true) from fun q => Nat.lt_irrefl _ q.1), Nat.add_zero (v j c')]
        congr 1
        have : (j < j + 1 ∧ mFr a Wd c' (y + 1) = true ∧ mGd a Wd still i j c' y = true) = (j = j ∧ c' < zpw Wd ∧ mFr a Wd c' (y + 1) = true ∧ mGd a Wd still i j c' y = true) := propext ⟨fun q => ⟨rfl, hc, q.2.1, q.2.2⟩, fun q => ⟨Nat.lt_succ_self _, q.2.2.1, q.2.2.2⟩⟩
        by_cases z : (j < j + 1 ∧ mFr a Wd c' (y + 1) = true ∧ mGd a Wd still i j c' y = true)
        · rw [if_pos z, if_pos (this ▸ z)]
        · rw [if_neg z, if_neg (fun q => z (this ▸ q))]
      · rw [if_neg (show ¬ (j = n ∧ c' < zpw Wd ∧ mFr a Wd c' (y + 1) = true ∧ mGd a Wd still i n c' y = true) from fun q => e q.1), Nat.add_zero (v j c' + (if j < n ∧ mFr a Wd c' (y + 1) = true ∧ mGd a Wd still i j c' y = true then w i j else 0))]
        congr 1
        exact if_iff ⟨fun q => ⟨by have := q.1; omega, q.2⟩, fun q => ⟨by have := q.1; omega, q.2⟩⟩
theorem m141 {still : Bool} {s6 : mSt} {y : Nat} {s : Nat → Int64} {w : Nat → Nat → Nat} (hN : zpw Wd ≤ 32) (hy : s6.1 = y + 1) (hw : pV (zpw Wd) s6.2.1 w) (hwl : ∀ i j, w i j < 2 ^ 31) (h : pV (zpw Wd) s (fun _ _ => 0)) : ∀ n, n ≤ zpw Wd → pV (zpw Wd) (zf (mf_reckons_B141 a Wd still s6) s n) (fun j c => zf (fun i s => s + (if mFr a Wd c (y + 1) = true ∧ mGd a Wd still i j c y = true then w i j else 0)) 0 n)
  | 0, _ => h
  | n + 1, hn => by
    have ih := m141 (still := still) hN hy hw hwl h n (by omega)
    have k := m150 (a := a) (still := still) (i := n) hN hy (show n < zpw Wd by omega) hw hwl ih (zpw Wd) (Nat.le_refl _)
    show pV (zpw Wd) (zf (mf_reckons_B150 a Wd still s6 n) (zf (mf_reckons_B141 a Wd still s6) s n) (zpw Wd)) _
    refine pV_e k (fun j c hj _ => ?_)
    show zf _ 0 n + _ = zf _ 0 n + _
    congr 1
    by_cases z : mFr a Wd c (y + 1) = true ∧ mGd a Wd still n j c y = true
    · rw [if_pos z, if_pos ⟨hj, z⟩]
    · rw [if_neg z, if_neg (fun q => z q.2)]
theorem z_up {s : Nat → Int64} {f : Nat → (Nat → Int64) → (Nat → Int64)} (hf : ∀ k s, f k s = vp_updL s k 0) : ∀ n, ∀ k, zf f s n k = if k < n then 0 else s k
  | 0, k => (if_neg (Nat.not_lt_zero _)).symm
  | n + 1, k => by
    show f n (zf f s n) k = _
    rw [hf]
    by_cases c : k = n
    · subst c; rw [pk_uLs, if_pos (Nat.lt_succ_self _)]
    · rw [pk_uLn c, z_up hf n k]
      by_cases d : k < n
      · rw [if_pos d, if_pos (by omega)]
      · rw [if_neg d, if_neg (by omega)]
theorem pV_0 {N : Nat} {s : Nat → Int64} (h : ∀ k, k < 1024 → s k = 0) : pV N s (fun _ _ => 0) := fun k hk => by
  rw [h k hk]
  split <;> rfl
/-- the first row -/
theorem m33 {s : Nat → Int64} (hN : zpw Wd ≤ 32) (h : ∀ k, k < 1024 → s k = 0) : ∀ n, n ≤ zpw Wd → ∀ k, k < 1024 → zf (mf_reckons_B33 a Wd) s n k = if k < n ∧ mFr a Wd k 0 = true then 1 else 0
  | 0, _, k, hk => by rw [if_neg (fun q => absurd q.1 (Nat.not_lt_zero _))]; exact h k hk
  | n + 1, hn, k, hk => by
    have ih := m33 hN h n (by omega) k hk
    show mf_reckons_B33 a Wd n (zf (mf_reckons_B33 a Wd) s n) k = _
    generalize zf (mf_reckons_B33 a Wd) s n = t at ih ⊢
    unfold mf_reckons_B33
    by_cases c : k = n
    · subst c
      by_cases d : mf_fitsRow a Wd (nI k) 0 = true
      · rw [if_pos d, pk_uLs, if_pos ⟨Nat.lt_succ_self _, d⟩]
      · rw [if_neg d, pk_uLs, if_neg (fun q => d q.2)]
    · have e1 : ∀ x, vp_updL t n x k = t k := fun x => pk_uLn c
      have e2 : (if k < n ∧ mFr a Wd k 0 = true then (1 : Int64) else 0) = if k < n + 1 ∧ mFr a Wd k 0 = true then 1 else 0 := if_iff ⟨fun q => ⟨by have := q.1; omega, q.2⟩, fun q => ⟨by have := q.1; omega, q.2⟩⟩
      rw [← e2, ← ih]
      split
      · exact e1 _
      · exact e1 _
theorem m33V {still : Bool} {s : Nat → Int64} (hW : 1 ≤ zpw Wd) (hN : zpw Wd ≤ 32) (h : ∀ k, k < 1024 → s k = 0) : pV (zpw Wd) (zf (mf_reckons_B33 a Wd) s (zpw Wd)) (mWy a Wd still 0) := by
  intro k hk
  rw [m33 hN h (zpw Wd) (Nat.le_refl _) k hk]
  by_cases c : k < zpw Wd
  · have e1 : k / 32 = 0 := by omega
    have e2 : k % 32 = k := by omega
    rw [e1, e2, if_pos (show 0 < zpw Wd ∧ k < zpw Wd from ⟨by omega, c⟩)]
    show _ = lN (if 0 = 0 ∧ mFr a Wd k 0 = true then 1 else 0)
    by_cases d : mFr a Wd k 0 = true
    · rw [if_pos ⟨c, d⟩, if_pos ⟨rfl, d⟩]; rfl
    · rw [if_neg (fun q => d q.2), if_neg (fun q => d q.2)]; rfl
  · rw [if_neg (fun q => c q.1)]
    by_cases d : k / 32 < zpw Wd ∧ k % 32 < zpw Wd
    · rw [if_pos d]
      show _ = lN (if k / 32 = 0 ∧ _ then 1 else 0)
      rw [if_neg (fun q => by omega)]; rfl
    · rw [if_neg d]; rfl
/-- what the marks of the rows hold -/
def pB (N y : Nat) (cb : Nat → Int32) (W : Nat → Nat → Nat → Nat) : Prop := ∀ y', y' < y → ∀ k, k < 1024 → cb (1024 * y' + k) = if k / 32 < N ∧ k % 32 < N ∧ 0 < W y' (k / 32) (k % 32) then 1 else 0
theorem pV_gt {N k y : Nat} {s : Nat → Int64} {v : Nat → Nat → Nat} (h : pV N s v) (hl : ∀ i j, v i j < 2 ^ 31) (hk : k < 1024) : (0 < s k) ↔ (k / 32 < N ∧ k % 32 < N ∧ 0 < v (k / 32) (k % 32)) := by
  rw [h k hk]
  by_cases d : k / 32 < N ∧ k % 32 < N
  · rw [if_pos d, show (0 : Int64) = lN 0 from rfl, lN_lt (by decide) (hl _ _)]
    exact ⟨fun q => ⟨d.1, d.2, q⟩, fun q => q.2.2⟩
  · rw [if_neg d]
    exact ⟨fun q => absurd q (by decide), fun q => absurd ⟨q.1, q.2.1⟩ d⟩
theorem m66 {s : Nat → Int64} {cb : Nat → Int32} : ∀ n, ∀ k, zf (mf_reckons_B66 s) cb n k = if k < n then (if 0 < s k then 1 else 0) else cb k
  | 0, k => (if_neg (Nat.not_lt_zero _)).symm
  | n + 1, k => by
    have ih := m66 (s := s) (cb := cb) n k
    show mf_reckons_B66 s n (zf (mf_reckons_B66 s) cb n) k = _
    generalize zf (mf_reckons_B66 s) cb n = t at ih ⊢
    unfold mf_reckons_B66
    by_cases c : k = n
    · subst c
      rw [if_pos (Nat.lt_succ_self _)]
      split
      · exact pk_us
      · exact pk_us
    · have e2 : (if k < n + 1 then (if 0 < s k then (1 : Int32) else 0) else cb k) = if k < n then (if 0 < s k then 1 else 0) else cb k := if_iff ⟨fun q => by omega, fun q => by omega⟩
      rw [e2, ← ih]
      split
      · exact pk_un c
      · exact pk_un c
theorem m263 {s6 : mSt} {s9 : Nat → Int64} {w0 : Nat → Int64} {c0 : Nat → Int32} : ∀ n, n ≤ 1024 → (∀ k, (zf (mf_reckons_B263 s6 s9) (w0, c0) n).1 k = if k < n then s9 k else w0 k) ∧ (∀ k, k < 1024 → (zf (mf_reckons_B263 s6 s9) (w0, c0) n).2 (1024 * s6.1 + k) = if k < n then (if 0 < s9 k then 1 else 0) else c0 (1024 * s6.1 + k)) ∧ ∀ k, k < 1024 * s6.1 → (zf (mf_reckons_B263 s6 s9) (w0, c0) n).2 k = c0 k
  | 0, _ => ⟨fun _ => (if_neg (Nat.not_lt_zero _)).symm, fun _ _ => (if_neg (Nat.not_lt_zero _)).symm, fun _ _ => rfl⟩
  | n + 1, hn => by
    obtain ⟨i1, i2, i3⟩ := m263 (s6 := s6) (s9 := s9) (w0 := w0) (c0 := c0) n (by omega)
    have ez : zf (mf_reckons_B263 s6 s9) (w0, c0) (n + 1) = mf_reckons_B263 s6 s9 n (zf (mf_reckons_B263 s6 s9) (w0, c0) n) := rfl
    rw [ez]
    generalize zf (mf_reckons_B263 s6 s9) (w0, c0) n = t at i1 i2 i3 ⊢
    have e0 : mf_reckons_B263 s6 s9 n t = (vp_updL t.1 n (s9 n), upd t.2 (1024 * s6.1 + n) (if 0 < s9 n then 1 else 0)) := by
      unfold mf_reckons_B263
      rw [pk_uLs]
      split <;> rfl
    rw [e0]
    refine ⟨fun k => ?_, fun k hk => ?_, fun k hk => ?_⟩
    · by_cases c : k = n
      · subst c; rw [if_pos (Nat.lt_succ_self _)]; exact pk_uLs
      · rw [if_iff (show k < n + 1 ↔ k < n from ⟨fun q => by omega, fun q => by omega⟩), ← i1 k]; exact pk_uLn c
    · by_cases c : k = n
      · subst c; rw [if_pos (Nat.lt_succ_self _)]; exact pk_us
      · rw [if_iff (show k < n + 1 ↔ k < n from ⟨fun q => by omega, fun q => by omega⟩), ← i2 k hk]; exact pk_un (by omega)
    · exact (pk_un (by omega)).trans (i3 k hk)
/-- the rows, one by one -/
theorem m103 {still : Bool} (hW0 : 1 ≤ zpw Wd) (hN : zpw Wd ≤ 32) (hR6 : R ≤ 6) (d : mSt) : ∀ n (s6 : mSt), R - s6.1 < n → 1 ≤ s6.1 → s6.1 ≤ R → pV (zpw Wd) s6.2.1 (mWy a Wd still (s6.1 - 1)) → pB (zpw Wd) s6.1 s6.2.2.2 (mWy a Wd still) → pV (zpw Wd) (zw (mf_reckons_B103 a Wd R still) d n s6).2.1 (mWy a Wd still (R - 1)) ∧ pB (zpw Wd) R (zw (mf_reckons_B103 a Wd R still) d n s6).2.2.2 (mWy a Wd still)
  | 0, s6, h, _, _, _, _ => absurd h (Nat.not_lt_zero _)
  | n + 1, s6, h, h1, h2, hV, hB => by
    by_cases c : R ≤ s6.1
    · have e : s6.1 = R := Nat.le_antisymm h2 c
      rw [zw_r (show mf_reckons_B103 a Wd R still s6 = .inr (s6.1, s6.2.1, s6.2.2.1, s6.2.2.2) by unfold mf_reckons_B103; rw [if_pos c])]
      rw [e] at hV hB
      exact ⟨hV, hB⟩
    · obtain ⟨y, hy⟩ : ∃ y, s6.1 = y + 1 := ⟨s6.1 - 1, by omega⟩
      rw [hy, Nat.add_sub_cancel] at hV
      have z8 : ∀ k, k < 1024 → zf mf_reckons_B116 s6.2.2.1 1024 k = 0 := fun k hk => by
        rw [z_up (f := mf_reckons_B116) (fun k s => rfl) 1024 k, if_pos hk]
      have v9 := m141 (a := a) (still := still) (s6 := s6) hN hy hV (fun i j => wN_lt hN (show y < 6 by omega)) (pV_0 z8) (zpw Wd) (Nat.le_refl _)
      generalize hs9 : zf (mf_reckons_B141 a Wd still s6) (zf mf_reckons_B116 s6.2.2.1 1024) (zpw Wd) = s9 at v9
      have v9 : pV (zpw Wd) s9 (mWy a Wd still (y + 1)) := pV_e v9 (fun j c _ _ => by
        show (if mFr a Wd c (y + 1) = true then zf (fun a_1 s => s + (if mGd a Wd still a_1 j c y = true then wN (mFr a Wd) (mGd a Wd still) (zpw Wd) y a_1 j else 0)) 0 (zpw Wd) else 0) = _
        rw [← sm_if]
        congr 1
        funext i s
        congr 1
        by_cases f : mFr a Wd c (y + 1) = true
        · by_cases g : mGd a Wd still i j c y = true
          · rw [if_pos f, if_pos g, if_pos ⟨f, g⟩]
          · rw [if_pos f, if_neg g, if_neg (fun q => g q.2)]
        · rw [if_neg f, if_neg (fun q => f q.1)])
      obtain ⟨k1, k2, k3⟩ := m263 (s6 := s6) (s9 := s9) (w0 := s6.2.1) (c0 := s6.2.2.2) 1024 (Nat.le_refl _)
      have e1 : mf_reckons_B103 a Wd R still s6 = .inl (s6.1 + 1, (zf (mf_reckons_B263 s6 s9) (s6.2.1, s6.2.2.2) 1024).1, s9, (zf (mf_reckons_B263 s6 s9) (s6.2.1, s6.2.2.2) 1024).2) := by
        unfold mf_reckons_B103 zlet mf_reckons_L116 mf_reckons_L141 mf_reckons_L263
        rw [if_neg c]
        try dsimp only
        rw [hs9]
      rw [zw_l e1]
      generalize zf (mf_reckons_B263 s6 s9) (s6.2.1, s6.2.2.2) 1024 = t at k1 k2 k3 ⊢
      refine m103 hW0 hN hR6 d n (s6.1 + 1, t.1, s9, t.2) (by show R - (s6.1 + 1) < n; omega) (by show 1 ≤ s6.1 + 1; omega) (by show s6.1 + 1 ≤ R; omega) ?_ ?_
      · show pV (zpw Wd) t.1 (mWy a Wd still (s6.1 + 1 - 1))
        rw [Nat.add_sub_cancel, hy]
        intro k hk
        rw [k1 k, if_pos hk]
        exact v9 k hk
      · intro y' hy' k hk
        show t.2 (1024 * y' + k) = _
        by_cases e : y' = s6.1
        · rw [e, k2 k hk, if_pos hk, hy]
          have g := pV_gt (y := y) v9 (fun i j => wN_lt hN (show y + 1 < 6 by omega)) hk
          by_cases z : 0 < s9 k
          · rw [if_pos z, if_pos (g.mp z)]
          · rw [if_neg z, if_neg (fun q => z (g.mpr q))]
        · have hlt : y' < s6.1 := by
            have hy' : y' < s6.1 + 1 := hy'
            omega
          rw [k3 (1024 * y' + k) (by omega)]
          exact hB y' hlt k hk
/-- all of them, as a number -/
def mTot (a : Nat → Int32) (Wd R : Nat) (still : Bool) : Nat := zf (fun i s => s + zf (fun j s => s + (if mGd a Wd still i j 0 (R - 1) = true then mWy a Wd still (R - 1) i j else 0)) 0 (zpw Wd)) 0 (zpw Wd)
theorem m341 {still : Bool} {t : mSt} {i : Nat} {s : Nat} (hN : zpw Wd ≤ 32) (hR0 : 1 ≤ R) (hR6 : R ≤ 6) (hi : i < zpw Wd) (h : pV (zpw Wd) t.2.1 (mWy a Wd still (R - 1))) : ∀ n, n ≤ zpw Wd → zf (mf_reckons_B341 a Wd R still t i) (lN s) n = lN (s + zf (fun j s => s + (if mGd a Wd still i j 0 (R - 1) = true then mWy a Wd still (R - 1) i j else 0)) 0 n)
  | 0, _ => rfl
  | n + 1, hn => by
    have ih := m341 (s := s) hN hR0 hR6 hi h n (by omega)
    show mf_reckons_B341 a Wd R still t i n (zf (mf_reckons_B341 a Wd R still t i) (lN s) n) = lN (s + (zf _ 0 n + _))
    rw [ih]
    unfold mf_reckons_B341
    rw [pV_at h hN hi (show n < zpw Wd by omega)]
    have hl := wN_lt (F := mFr a Wd) (Gd := mGd a Wd still) (a := i) (b := n) hN (show R - 1 < 6 by omega)
    by_cases c : 0 < lN (mWy a Wd still (R - 1) i n)
    · rw [if_pos c]
      by_cases d : mf_isGood a Wd (nI i) (nI n) 0 (nI (R - 1)) still = true
      · rw [if_pos d, if_pos (show mGd a Wd still i n 0 (R - 1) = true from d), lN_add, Nat.add_assoc]
      · rw [if_neg d, if_neg (show ¬ mGd a Wd still i n 0 (R - 1) = true from d), show (0 : Int64) = lN 0 from rfl, lN_add, Nat.add_assoc]
    · rw [if_neg c]
      have c0 : mWy a Wd still (R - 1) i n = 0 := by
        have : ¬ 0 < mWy a Wd still (R - 1) i n := fun q => c (by rw [show (0 : Int64) = lN 0 from rfl, lN_lt (by decide) hl]; exact q)
        omega
      rw [c0, show (0 : Int64) = lN 0 from rfl, lN_add]
      have e0 : (if mGd a Wd still i n 0 (R - 1) = true then 0 else 0) = 0 := by split <;> rfl
      rw [e0, Nat.add_assoc]
theorem m332 {still : Bool} {t : mSt} (hN : zpw Wd ≤ 32) (hR0 : 1 ≤ R) (hR6 : R ≤ 6) (h : pV (zpw Wd) t.2.1 (mWy a Wd still (R - 1))) : ∀ n, n ≤ zpw Wd → zf (mf_reckons_B332 a Wd R still t) 0 n = lN (zf (fun i s => s + zf (fun j s => s + (if mGd a Wd still i j 0 (R - 1) = true then mWy a Wd still (R - 1) i j else 0)) 0 (zpw Wd)) 0 n)
  | 0, _ => rfl
  | n + 1, hn => by
    have ih := m332 hN hR0 hR6 h n (by omega)
    show mf_reckons_B332 a Wd R still t n (zf (mf_reckons_B332 a Wd R still t) 0 n) = lN (zf _ 0 n + _)
    rw [ih]
    exact m341 hN hR0 hR6 (show n < zpw Wd by omega) h (zpw Wd) (Nat.le_refl _)
theorem r_reckons {still : Bool} {ways further : Nat → Int64} {cb : Nat → Int32} (hW0 : 1 ≤ zpw Wd) (hN : zpw Wd ≤ 32) (hR0 : 1 ≤ R) (hR6 : R ≤ 6) : (mf_reckons a ways further cb Wd R still).1 = lN (mTot a Wd R still) ∧ pB (zpw Wd) R (mf_reckons a ways further cb Wd R still).2.2.2 (mWy a Wd still) := by
  have z1 : ∀ k, k < 1024 → zf mf_reckons_B11 ways 1024 k = 0 := fun k hk => by
    rw [z_up (f := mf_reckons_B11) (fun k s => rfl) 1024 k, if_pos hk]
  have v2 := m33V (a := a) (still := still) hW0 hN z1
  have b4 : pB (zpw Wd) 1 (zf (mf_reckons_B66 (zf (mf_reckons_B33 a Wd) (zf mf_reckons_B11 ways 1024) (zpw Wd))) cb 1024) (mWy a Wd still) := by
    intro y' hy' k hk
    have e : y' = 0 := by omega
    subst e
    rw [Nat.mul_zero, Nat.zero_add, m66 1024 k, if_pos hk]
    have g := pV_gt (y := 0) v2 (fun i j => wN_lt hN (show 0 < 6 by omega)) hk
    by_cases z : 0 < zf (mf_reckons_B33 a Wd) (zf mf_reckons_B11 ways 1024) (zpw Wd) k
    · rw [if_pos z, if_pos (g.mp z)]
    · rw [if_neg z, if_neg (fun q => z (g.mpr q))]
  unfold mf_reckons zlet mf_reckons_L11 mf_reckons_L33 mf_reckons_L66 mf_reckons_L103 mf_reckons_L332
  try dsimp only
  generalize zf (mf_reckons_B33 a Wd) (zf mf_reckons_B11 ways 1024) (zpw Wd) = s2 at v2 b4 ⊢
  generalize zf (mf_reckons_B66 s2) cb 1024 = s4 at b4 ⊢
  obtain ⟨k1, k2⟩ := m103 (R := R) hW0 hN hR6 (1, s2, further, s4) ((R - 1) + 1) (1, s2, further, s4) (Nat.lt_succ_self _) (Nat.le_refl _) hR0 v2 b4
  exact ⟨m332 hN hR0 hR6 k1 (zpw Wd) (Nat.le_refl _), k2⟩
end R15
