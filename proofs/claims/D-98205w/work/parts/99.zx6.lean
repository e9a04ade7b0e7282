/-! r39: what reading leaves alone; as long as nothing failed, the place of a fault stays what it was -/
section R39
variable {tape text : Nat → Int32} {zs : Nat} {ra rb fr en : Nat} {sort num bk bp tk val fp fl : Int32} {at_ : Nat → Int32} {names : Nat → Int64} {k to : Nat}
abbrev yP14 : Type := Nat × Nat × Int32 × Int32 × Int32 × Int32 × Nat × Nat × (Nat → Int32) × (Nat → Int32) × (Nat → Int64) × (Nat → Int64) × (Nat → Int32) × (Nat → Int32)
abbrev yP23 : Type := Bool × Nat × Nat × Int32 × Int32 × Int32 × Int32 × Int32 × Nat × Nat × Int32 × Int32 × Int32 × Nat × Nat × Bool × (Nat → Int32) × (Nat → Int32) × (Nat → Int32) × (Nat → Int64) × (Nat → Int64) × (Nat → Int32) × (Nat → Int32)
abbrev yP9 : Type := Bool × Int32 × Nat × Nat × Int32 × Int32 × Int32 × (Nat → Int32) × (Nat → Int64)
abbrev yM8 : Type := Bool × Int32 × Nat × Nat × Int32 × Int32 × Int32 × (Nat → Int32)
theorem zl_p {α β : Type} {P : β → Prop} (a : α) (f : α → β) (h : ∀ t, a = t → P (f t)) : P (zlet a f) := h a rfl
theorem pI {β : Type} {P : β → Prop} {c : Prop} [Decidable c] {a b : β} (h1 : c → P a) (h2 : ¬ c → P b) : P (if c then a else b) := by
  by_cases h : c
  · rw [if_pos h]; exact h1 h
  · rw [if_neg h]; exact h2 h
theorem zc_p {α β γ : Type} {P : γ → Prop} (x : α ⊕ β) (f : α → γ) (g : β → γ) (h1 : ∀ a, x = .inl a → P (f a)) (h2 : ∀ b, x = .inr b → P (g b)) : P (zcase x f g) := by
  cases x with
  | inl a => exact h1 a rfl
  | inr b => exact h2 b rfl
theorem nb_lo (hk : ¬ k = to) : (mf_neighbours zs tk fr en val fp fl at_ text to).2.2.2.2.2.2.2 k = at_ k := by
  unfold mf_neighbours
  by_cases c : tk = 3
  · rw [if_pos c]
    have key : ∀ r : (Int32 × Nat × Nat × Int32 × (Nat → Int32)) ⊕ (Bool × Int32 × Nat × Nat × Int32 × Int32 × Int32 × (Nat → Int32)), mf_neighbours_L14 zs tk en fp fl text to (tk, fr, en, val, at_) = r → (∀ t, r = .inl t → t.2.2.2.2 k = at_ k) ∧ (∀ t, r = .inr t → t.2.2.2.2.2.2.2 k = at_ k) := by
      intro r hr
      subst hr
      unfold mf_neighbours_L14
      refine zw_inv (fun s : Int32 × Nat × Nat × Int32 × (Nat → Int32) => s.2.2.2.2 k = at_ k) (fun r : (Int32 × Nat × Nat × Int32 × (Nat → Int32)) ⊕ (Bool × Int32 × Nat × Nat × Int32 × Int32 × Int32 × (Nat → Int32)) => (∀ t, r = .inl t → t.2.2.2.2 k = at_ k) ∧ (∀ t, r = .inr t → t.2.2.2.2.2.2.2 k = at_ k)) ?_ ?_ ⟨fun t ht => (by cases ht; rfl), fun t ht => (by cases ht)⟩ _ _ rfl
      · intro s s' hs e
        unfold mf_neighbours_B14 zlet at e
        split at e
        · split at e
          · split at e
            · cases e
            · cases e
              exact (pk_un hk).trans hs
          · cases e
        · cases e
      · intro s r hs e
        unfold mf_neighbours_B14 zlet at e
        split at e
        · split at e
          · split at e
            · cases e
              exact ⟨fun t ht => (by cases ht), fun t ht => (by cases ht; exact hs)⟩
            · cases e
          · cases e
            exact ⟨fun t ht => (by cases ht), fun t ht => (by cases ht; exact hs)⟩
        · cases e
          exact ⟨fun t ht => (by cases ht; exact hs), fun t ht => (by cases ht)⟩
    obtain ⟨k1, k2⟩ := key _ rfl
    cases hr : mf_neighbours_L14 zs tk en fp fl text to (tk, fr, en, val, at_) with
    | inl t => exact k1 t hr
    | inr t => exact k2 t hr
  · rw [if_neg c]
    rfl
theorem nu_lo {lo hi : Int32} (hk : ¬ k = to) : (mf_number zs tk fr en val fp fl at_ text to lo hi).2.2.2.2.2.2.2 k = at_ k := by
  unfold mf_number zlet
  dsimp only
  split
  · split
    · rfl
    · split
      · exact pk_un hk
      · rfl
  · rfl
def kF (fl fp fl' fp' : Int32) : Prop := fl' = 0 → fl = 0 ∧ fp' = fp
theorem kF_r : kF fl fp fl fp := fun h => ⟨h, rfl⟩
theorem kF_t {a b c d e f : Int32} (h1 : kF a b c d) (h2 : kF c d e f) : kF a b e f := fun h => ⟨(h1 (h2 h).1).1, (h2 h).2.trans (h1 (h2 h).1).2⟩
theorem fails_n0 {kind : Int32} (hk : ¬ kind = 0) : ¬ (mf_fails tk fr fp fl kind).2.2 = 0 := by
  unfold mf_fails
  by_cases c : fl = 0
  · rw [if_pos c]
    by_cases d : tk = 1
    · rw [if_pos d]; show ¬ (1 : Int32) = 0; decide
    · rw [if_neg d]; exact hk
  · rw [if_neg c]; exact c
theorem kF_f {kind a b : Int32} (hk : ¬ kind = 0) : kF a b (mf_fails tk fr fp fl kind).2.2 (mf_fails tk fr fp fl kind).2.1 := fun h => absurd h (fails_n0 hk)
theorem sign_fp {ch : Int32} : kF fl fp (mf_wantSign zs tk fr en val fp fl text ch).2.2.2.2.2.2 (mf_wantSign zs tk fr en val fp fl text ch).2.2.2.2.2.1 := by
  unfold mf_wantSign zlet
  dsimp only
  split
  · exact kF_r
  · exact kF_f (by decide)
theorem word_fp {wk : Int32} : kF fl fp (mf_wantWord zs tk fr en val fp fl text wk).2.2.2.2.2.2 (mf_wantWord zs tk fr en val fp fl text wk).2.2.2.2.2.1 := by
  unfold mf_wantWord zlet
  dsimp only
  split
  · exact kF_r
  · exact kF_f (by decide)
theorem num_fp {lo hi : Int32} : kF fl fp (mf_number zs tk fr en val fp fl at_ text to lo hi).2.2.2.2.2.2.1 (mf_number zs tk fr en val fp fl at_ text to lo hi).2.2.2.2.2.1 := by
  unfold mf_number zlet
  dsimp only
  split
  · split
    · exact kF_f (by decide)
    · split
      · exact kF_r
      · exact kF_f (by decide)
  · exact kF_f (by decide)
theorem nb_fp : kF fl fp (mf_neighbours zs tk fr en val fp fl at_ text to).2.2.2.2.2.2.1 (mf_neighbours zs tk fr en val fp fl at_ text to).2.2.2.2.2.1 := by
  unfold mf_neighbours
  by_cases c : tk = 3
  · rw [if_pos c]
    have key : ∀ t, mf_neighbours_L14 zs tk en fp fl text to (tk, fr, en, val, at_) = .inr t → ¬ t.2.2.2.2.2.2.1 = 0 := by
      unfold mf_neighbours_L14
      refine zw_inv (fun _ : Int32 × Nat × Nat × Int32 × (Nat → Int32) => True) (fun r : (Int32 × Nat × Nat × Int32 × (Nat → Int32)) ⊕ (Bool × Int32 × Nat × Nat × Int32 × Int32 × Int32 × (Nat → Int32)) => ∀ t, r = .inr t → ¬ t.2.2.2.2.2.2.1 = 0) (fun _ _ _ _ => trivial) ?_ (fun t ht => by cases ht) _ _ trivial
      intro s r hs e
      unfold mf_neighbours_B14 zlet at e
      split at e
      · split at e
        · split at e
          · cases e
            exact fun t ht => by cases ht; exact fails_n0 (by decide)
          · cases e
        · cases e
          exact fun t ht => by cases ht; exact fails_n0 (by decide)
      · cases e
        exact fun t ht => by cases ht
    cases hr : mf_neighbours_L14 zs tk en fp fl text to (tk, fr, en, val, at_) with
    | inl t => exact kF_r
    | inr t => exact fun h => absurd h (key t hr)
  · rw [if_neg c]
    exact kF_f (by decide)
/-- after a call: the fault's state and the cells of a slot -/
def loP (fl fp : Int32) (at_ : Nat → Int32) (K : Nat → Prop) (r : yM8) : Prop := (∀ k, K k → r.2.2.2.2.2.2.2 k = at_ k) ∧ kF fl fp r.2.2.2.2.2.2.1 r.2.2.2.2.2.1
def newP (fl fp : Int32) (names : Nat → Int64) (r : Bool × Int32 × Nat × Nat × Int32 × Int32 × Int32 × (Nat → Int64)) : Prop := (∀ k, k < 40 → r.2.2.2.2.2.2.2 k = names k) ∧ kF fl fp r.2.2.2.2.2.2.1 r.2.2.2.2.2.1
theorem new_p {many most srt : Nat} : newP fl fp names (mf_newOne zs tk fr en val fp fl at_ names text many most srt) := by
  unfold mf_newOne
  refine pI (fun _ => ?_) (fun _ => ?_)
  · exact zl_p _ _ (fun t h => ⟨fun _ _ => rfl, by rw [← h]; exact kF_f (by decide)⟩)
  · refine zl_p _ _ (fun u hu => pI (fun _ => pI (fun _ => pI (fun _ => ?_) (fun _ => ?_)) (fun _ => ?_)) (fun _ => ?_))
    · exact zl_p _ _ (fun t h => ⟨fun k hk => pk_uLn (by omega), kF_r⟩)
    · exact zl_p _ _ (fun t h => ⟨fun _ _ => rfl, by rw [← h]; exact kF_f (by decide)⟩)
    · exact zl_p _ _ (fun t h => ⟨fun _ _ => rfl, by rw [← h]; exact kF_f (by decide)⟩)
    · exact zl_p _ _ (fun t h => ⟨fun _ _ => rfl, by rw [← h]; exact kF_f (by decide)⟩)
theorem nbE {t : yM8} (h : mf_neighbours zs tk fr en val fp fl at_ text to = t) (hk : ¬ k = to) : t.2.2.2.2.2.2.2 k = at_ k := by rw [← h]; exact nb_lo hk
theorem nbF {t : yM8} (h : mf_neighbours zs tk fr en val fp fl at_ text to = t) : kF fl fp t.2.2.2.2.2.2.1 t.2.2.2.2.2.1 := by rw [← h]; exact nb_fp
theorem nuE {lo hi : Int32} {t : yM8} (h : mf_number zs tk fr en val fp fl at_ text to lo hi = t) (hk : ¬ k = to) : t.2.2.2.2.2.2.2 k = at_ k := by rw [← h]; exact nu_lo hk
theorem nuF {lo hi : Int32} {t : yM8} (h : mf_number zs tk fr en val fp fl at_ text to lo hi = t) : kF fl fp t.2.2.2.2.2.2.1 t.2.2.2.2.2.1 := by rw [← h]; exact num_fp
theorem woF {wk : Int32} {t : Bool × Int32 × Nat × Nat × Int32 × Int32 × Int32} (h : mf_wantWord zs tk fr en val fp fl text wk = t) : kF fl fp t.2.2.2.2.2.2 t.2.2.2.2.2.1 := by rw [← h]; exact word_fp
theorem siF {ch : Int32} {t : Bool × Int32 × Nat × Nat × Int32 × Int32 × Int32} (h : mf_wantSign zs tk fr en val fp fl text ch = t) : kF fl fp t.2.2.2.2.2.2 t.2.2.2.2.2.1 := by rw [← h]; exact sign_fp
theorem faF {kind a b : Int32} {t : Bool × Int32 × Int32} (h : mf_fails tk fr fp fl kind = t) (hk : ¬ kind = 0) : kF a b t.2.2 t.2.1 := by rw [← h]; exact kF_f hk
theorem neE {many most srt : Nat} {t : Bool × Int32 × Nat × Nat × Int32 × Int32 × Int32 × (Nat → Int64)} (h : mf_newOne zs tk fr en val fp fl at_ names text many most srt = t) : newP fl fp names t := by rw [← h]; exact new_p
/-- a rule, a citizen -/
def ruP (fl fp : Int32) (at_ : Nat → Int32) (names : Nat → Int64) (r : yP9) : Prop := (∀ k, k < 1650 → ¬ k = 1645 → r.2.2.2.2.2.2.2.1 k = at_ k) ∧ (r.1 = false → r.2.2.2.2.2.2.2.1 1645 = at_ 1645) ∧ (∀ k, k < 40 → r.2.2.2.2.2.2.2.2 k = names k) ∧ kF fl fp r.2.2.2.2.2.2.1 r.2.2.2.2.2.1
def ciP (fl fp : Int32) (at_ : Nat → Int32) (names : Nat → Int64) (r : yP9) : Prop := (∀ k, k < 1660 → ¬ k = 1646 → r.2.2.2.2.2.2.2.1 k = at_ k) ∧ (r.1 = false → r.2.2.2.2.2.2.2.1 1646 = at_ 1646) ∧ (∀ k, k < 40 → r.2.2.2.2.2.2.2.2 k = names k) ∧ kF fl fp r.2.2.2.2.2.2.1 r.2.2.2.2.2.1
theorem u2 (f : Nat → Int32) (x y : Int32) (k1 : k < 1650) (k2 : ¬ k = 1645) : upd (upd f 1645 x) 1650 y k = f k := by rw [pk_un (by omega), pk_un (by omega)]
theorem rule_p : ruP fl fp at_ names (mf_aRule zs tk fr en val fp fl at_ names text) := by
  unfold mf_aRule
  refine zl_p _ _ (fun t1 h1 => pI (fun _ => ?_) (fun _ => ?_))
  · obtain ⟨n1, n2⟩ := neE h1
    refine zl_p _ _ (fun t3 h3 => pI (fun _ => ?_) (fun _ => ?_))
    · refine zl_p _ _ (fun t9 h9 => pI (fun _ => ?_) (fun _ => ?_))
      · refine zl_p _ _ (fun t11 h11 => pI (fun _ => ?_) (fun _ => ?_))
        · refine zl_p _ _ (fun t13 h13 => pI (fun _ => ?_) (fun _ => ?_))
          · exact ⟨fun k k1 k2 => (u2 _ _ _ k1 k2).trans ((nbE h13 (by omega)).trans (nbE h9 (by omega))), fun q => (by cases q), n1, kF_t n2 (kF_t (nbF h9) (nbF h13))⟩
          · exact ⟨fun k k1 k2 => (nbE h13 (by omega)).trans (nbE h9 (by omega)), fun _ => (nbE h13 (by omega)).trans (nbE h9 (by omega)), n1, kF_t n2 (kF_t (nbF h9) (nbF h13))⟩
        · exact ⟨fun k k1 k2 => (u2 _ _ _ k1 k2).trans (nbE h9 (by omega)), fun q => (by cases q), n1, kF_t n2 (nbF h9)⟩
      · exact ⟨fun k k1 k2 => nbE h9 (by omega), fun _ => nbE h9 (by omega), n1, kF_t n2 (nbF h9)⟩
    · refine zl_p _ _ (fun t5 h5 => pI (fun _ => ?_) (fun _ => ?_))
      · refine zl_p _ _ (fun t7 h7 => pI (fun _ => ?_) (fun _ => ?_))
        · exact ⟨fun k k1 k2 => (u2 _ _ _ k1 k2).trans (nbE h7 (by omega)), fun q => (by cases q), n1, kF_t n2 (nbF h7)⟩
        · exact ⟨fun k k1 k2 => nbE h7 (by omega), fun _ => nbE h7 (by omega), n1, kF_t n2 (nbF h7)⟩
      · exact ⟨fun k k1 k2 => u2 _ _ _ k1 k2, fun q => (by cases q), n1, n2⟩
  · obtain ⟨n1, n2⟩ := neE h1
    exact ⟨fun _ _ _ => rfl, fun _ => rfl, n1, n2⟩
theorem cit_p : ciP fl fp at_ names (mf_aCitizen zs tk fr en val fp fl at_ names text) := by
  unfold mf_aCitizen
  refine zl_p _ _ (fun t1 h1 => pI (fun _ => ?_) (fun _ => ?_))
  · obtain ⟨n1, n2⟩ := neE h1
    refine zl_p _ _ (fun t3 h3 => pI (fun _ => ?_) (fun _ => ?_))
    · refine zl_p _ _ (fun t5 h5 => pI (fun _ => ?_) (fun _ => ?_))
      · refine zl_p _ _ (fun t7 h7 => pI (fun _ => ?_) (fun _ => ?_))
        · refine zl_p _ _ (fun t9 h9 => pI (fun _ => ?_) (fun _ => ?_))
          · exact ⟨fun k k1 k2 => (pk_un k2).trans ((nuE h9 (by omega)).trans (nuE h5 (by omega))), fun q => (by cases q), n1, kF_t n2 (kF_t (woF h3) (kF_t (nuF h5) (kF_t (woF h7) (nuF h9))))⟩
          · exact ⟨fun k k1 k2 => (nuE h9 (by omega)).trans (nuE h5 (by omega)), fun _ => (nuE h9 (by omega)).trans (nuE h5 (by omega)), n1, kF_t n2 (kF_t (woF h3) (kF_t (nuF h5) (kF_t (woF h7) (nuF h9))))⟩
        · exact ⟨fun k k1 k2 => nuE h5 (by omega), fun _ => nuE h5 (by omega), n1, kF_t n2 (kF_t (woF h3) (kF_t (nuF h5) (woF h7)))⟩
      · exact ⟨fun k k1 k2 => nuE h5 (by omega), fun _ => nuE h5 (by omega), n1, kF_t n2 (kF_t (woF h3) (nuF h5))⟩
    · exact ⟨fun _ _ _ => rfl, fun _ => rfl, n1, kF_t n2 (woF h3)⟩
  · obtain ⟨n1, n2⟩ := neE h1
    exact ⟨fun _ _ _ => rfl, fun _ => rfl, n1, n2⟩
def paP (fl fp : Int32) (at_ : Nat → Int32) (names : Nat → Int64) (r : yP9) : Prop := (∀ k, k < 1645 → r.2.2.2.2.2.2.2.1 k = at_ k) ∧ (∀ k, k < 40 → r.2.2.2.2.2.2.2.2 k = names k) ∧ kF fl fp r.2.2.2.2.2.2.1 r.2.2.2.2.2.1
theorem ruE {t : yP9} (h : mf_aRule zs tk fr en val fp fl at_ names text = t) : paP fl fp at_ names t := by
  rw [← h]
  exact ⟨fun k hk => rule_p.1 k (by omega) (by omega), rule_p.2.2.1, rule_p.2.2.2⟩
theorem ciE {t : yP9} (h : mf_aCitizen zs tk fr en val fp fl at_ names text = t) : paP fl fp at_ names t := by
  rw [← h]
  exact ⟨fun k hk => cit_p.1 k (by omega) (by omega), cit_p.2.2.1, cit_p.2.2.2⟩
theorem part_p : paP fl fp at_ names (mf_townPart zs tk fr en val fp fl at_ names text) := by
  unfold mf_townPart
  refine pI (fun _ => ?_) (fun _ => pI (fun _ => ?_) (fun _ => ?_))
  · refine zl_p _ _ (fun t2 h2 => pI (fun _ => ?_) (fun _ => ?_))
    · obtain ⟨n1, n2, n3⟩ := ruE h2
      refine zl_p _ _ (fun t4 h4 => pI (fun _ => ?_) (fun _ => ?_))
      · exact ⟨n1, n2, kF_t n3 (siF h4)⟩
      · exact ⟨n1, n2, kF_t n3 (siF h4)⟩
    · obtain ⟨n1, n2, n3⟩ := ruE h2
      exact ⟨n1, n2, n3⟩
  · refine zl_p _ _ (fun t2 h2 => pI (fun _ => ?_) (fun _ => ?_))
    · obtain ⟨n1, n2, n3⟩ := ciE h2
      refine zl_p _ _ (fun t4 h4 => pI (fun _ => ?_) (fun _ => ?_))
      · exact ⟨n1, n2, kF_t n3 (siF h4)⟩
      · exact ⟨n1, n2, kF_t n3 (siF h4)⟩
    · obtain ⟨n1, n2, n3⟩ := ciE h2
      exact ⟨n1, n2, n3⟩
  · exact zl_p _ _ (fun t h => ⟨fun _ _ => rfl, fun _ _ => rfl, faF h (by decide)⟩)
def k8 (fl fp : Int32) (r : yM8) : Prop := kF fl fp r.2.2.2.2.2.2.1 r.2.2.2.2.2.1
theorem row_fp : k8 fl fp (mf_aRow zs tk fr en val fp fl at_ text) := by
  unfold mf_aRow
  refine pI (fun _ => zl_p _ _ (fun t h => faF h (by decide))) (fun _ => zl_p _ _ (fun q hq => pI (fun _ => pI (fun _ => ?_) (fun _ => ?_)) (fun _ => ?_)))
  · refine zc_p _ _ _ (fun t6 _ => ?_) (fun r hr => ?_)
    · refine zl_p _ _ (fun t10 _ => zl_p _ _ (fun t23 _ => zl_p _ _ (fun t24 h24 => ?_)))
      exact siF h24
    · have key : ∀ t, mf_aRow_L63 zs fp fl at_ text q q.2.1 = .inr t → ¬ t.2.2.2.2.2.2.1 = 0 := by
        unfold mf_aRow_L63
        refine zw_inv (fun _ : Nat => True) (fun r : Nat ⊕ (Bool × Int32 × Nat × Nat × Int32 × Int32 × Int32 × (Nat → Int32)) => ∀ t, r = .inr t → ¬ t.2.2.2.2.2.2.1 = 0) (fun _ _ _ _ => trivial) ?_ (fun t ht => (by cases ht)) _ _ trivial
        intro s r hs e
        unfold mf_aRow_B63 zlet at e
        split at e
        · cases e
          exact fun t ht => (by cases ht)
        · split at e
          · cases e
          · cases e
            exact fun t ht => (by cases ht; exact fails_n0 (by decide))
      exact fun h => absurd h (key r hr)
  · exact zl_p _ _ (fun t h => faF h (by decide))
  · exact zl_p _ _ (fun t h => faF h (by decide))
theorem first_fp : k8 fl fp (mf_first zs tk fr en val fp fl at_ text) := by
  unfold mf_first
  refine zl_p _ _ (fun t1 h1 => ?_)
  have f1 := woF h1
  refine pI (fun _ => ?_) (fun _ => f1)
  refine zl_p _ _ (fun t3 h3 => ?_)
  have f3 := nuF h3
  refine pI (fun _ => ?_) (fun _ => kF_t f1 f3)
  refine zl_p _ _ (fun t5 h5 => pI (fun _ => pI (fun _ => ?_) (fun _ => ?_)) (fun _ => ?_))
  · exact zl_p _ _ (fun t h => kF_t (woF h1) (kF_t (nuF h3) (siF h)))
  · exact zl_p _ _ (fun t h => kF_t (woF h1) (kF_t (nuF h3) (siF h)))
  · exact zl_p _ _ (fun t h => kF_t (woF h1) (kF_t (nuF h3) (siF h)))
end R39
