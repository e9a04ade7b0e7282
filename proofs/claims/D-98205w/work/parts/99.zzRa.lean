/-! r60: the two objects as they are made -/
section R60
theorem zf_0 : ∀ n k, zf (mf_plain_B2 0) (fun _ => (0 : Int32)) n k = 0 := by
  intro n
  induction n with
  | zero => exact fun _ => rfl
  | succ n ih =>
    intro k
    show upd (zf (mf_plain_B2 0) (fun _ => (0 : Int32)) n) (0 + n) 0 k = 0
    by_cases e : k = 0 + n
    · subst e; exact pk_us
    · rw [pk_un e]; exact ih k
theorem cM_e (k : Nat) : cf_WindowHillModel k = upd (upd (upd (upd (upd (zf (mf_plain_B2 0) (fun _ => (0 : Int32)) 410) (0 + 10) (-1)) (0 + 11) (-1)) 0 1) 1 1) 2 1 k := rfl
theorem cM_z {k : Nat} (h0 : ¬ k = 0) (h1 : ¬ k = 1) (h2 : ¬ k = 2) (h3 : ¬ k = 10) (h4 : ¬ k = 11) : cf_WindowHillModel k = 0 := by
  rw [cM_e, pk_un h2, pk_un h1, pk_un h0, pk_un (by omega), pk_un (by omega)]
  exact zf_0 410 k
theorem cM_0 : cf_WindowHillModel 0 = 1 := by
  rw [cM_e, pk_un (by decide), pk_un (by decide), pk_us]
theorem cM_1 : cf_WindowHillModel 1 = 1 := by
  rw [cM_e, pk_un (by decide), pk_us]
theorem cM_2 : cf_WindowHillModel 2 = 1 := by
  rw [cM_e, pk_us]
theorem cM_10 : cf_WindowHillModel 10 = -1 := by
  rw [cM_e, pk_un (by decide), pk_un (by decide), pk_un (by decide), pk_un (by decide)]
  exact pk_us
theorem cM_11 : cf_WindowHillModel 11 = -1 := by
  rw [cM_e, pk_un (by decide), pk_un (by decide), pk_un (by decide)]
  exact pk_us
/-- the first town -/
def tau0 (u : Nat → Nat) : zTn := ((fun i => u (10 + i)), (fun i => if i < 2 then 1 else 0), (fun i => if i = 0 then 1 else 0), false, (fun _ _ => 0), (fun _ _ => 0))
def mn0 : Nat → Int32 := upd (upd (upd (upd (fun _ => 0) 0 (-1)) 1 (-1)) 2 (-1)) 3 (-1)
theorem st_T : pT cf_WindowHillModel 1 1 1 0 0 (fun _ => 0) := by
  refine ⟨cM_2, (cM_z (by decide) (by decide) (by decide) (by decide) (by decide)).trans (by decide), fun k hk => ?_⟩
  obtain rfl : k = 0 := by omega
  rw [near_0, cM_z (k := 9) (by decide) (by decide) (by decide) (by decide) (by decide), cM_2]
  decide
theorem st_W : sTw cf_WindowHillModel (fun _ => 0) 1 1 0 0 1 0 0 false (fun _ => 0) (fun _ => 0) (fun _ => 0) (fun _ => 0) (fun _ => 0) := by
  refine ⟨⟨by decide, by decide, by decide, by decide, by decide, by decide, by decide⟩, ⟨cM_0.trans (by decide), cM_1.trans (by decide), (cM_z (by decide) (by decide) (by decide) (by decide) (by decide)).trans (by decide), (cM_z (by decide) (by decide) (by decide) (by decide) (by decide)).trans (by decide)⟩, (cM_z (by decide) (by decide) (by decide) (by decide) (by decide)).trans (by decide), st_T, ⟨by decide, fun k hk => absurd hk (Nat.not_lt_zero _)⟩, fun k hk => absurd hk (Nat.not_lt_zero _), ⟨by decide, by decide, by decide⟩, fun k hk => absurd hk (Nat.not_lt_zero _), fun k hk => absurd hk (Nat.not_lt_zero _)⟩
theorem st_H : sHl cf_WindowHillModel 1 1 0 0 (-1) 0 0 (fun _ => 0) (fun _ => 0) (fun _ => 0) 1 0 0 (fun _ => 0) := by
  refine ⟨⟨st_T, cM_z (by decide) (by decide) (by decide) (by decide) (by decide), ?_, cM_z (by decide) (by decide) (by decide) (by decide) (by decide), cM_z (by decide) (by decide) (by decide) (by decide) (by decide), cM_10, Or.inl rfl, by decide, fun k hk => ⟨cM_z (by omega) (by omega) (by omega) (by omega) (by omega), cM_z (by omega) (by omega) (by omega) (by omega) (by omega)⟩, fun k hk => cM_z (by omega) (by omega) (by omega) (by omega) (by omega)⟩, ⟨by decide, by decide⟩, fun k hk => (show ¬ (0 : Int32) < 0 ∧ (0 : Int32) ≤ 3 by decide)⟩
  rw [cM_z (k := 3) (by decide) (by decide) (by decide) (by decide) (by decide)]
  rw [cM_z (k := 4) (by decide) (by decide) (by decide) (by decide) (by decide)]
  decide
theorem st_I (k : Nat) (n : Nat) (h : 12 ≤ k) : mIn (cf_WindowHillModel k) n := by
  rw [cM_z (by omega) (by omega) (by omega) (by omega) (by omega)]
  exact ⟨by decide, Nat.zero_le _⟩
theorem st_mn : ∀ t, t < 4 → mn0 t = -1 := by decide
theorem st_LR (G : zG) (u : Nat → Nat) : LR G 0 none 0 (fun _ => 0) 0 (-1) 0 0 (fun _ => 0) (fun _ => 0) (fun _ => 0) (tau0 u) (fun _ => 0) (fun _ => none) (fun _ => none) (fun _ => none) [] [] 0 0 0 cf_WindowHillModel (fun _ => 0) (fun _ => 0) mn0 (fun _ => 0) (fun _ => 0) (fun _ => 0) none := by
  refine ⟨⟨st_W, st_H, cM_11⟩, Or.inl ⟨rfl, rfl⟩, fun y h => absurd h (by simp), ⟨Nat.zero_le _, fun _ _ => rfl, fun i hi => absurd hi (Nat.not_lt_zero _)⟩, fun t ht => st_mn t ht, ⟨Nat.zero_le _, fun _ => (show vp_nar .byte 0 = 0 by decide)⟩, ⟨Nat.zero_le _, Nat.zero_le _, Nat.zero_le _⟩, ⟨st_I _ _ (by decide), st_I _ _ (by decide), st_I _ _ (by decide), st_I _ _ (by decide)⟩, fun o _ => ⟨(show ¬ (0 : Int32) < 0 by decide), (show (0 : Int32).toNatClampNeg ≤ 98 by decide)⟩, fun _ _ => rfl⟩
/-- the addresses -/
def ax0 (oA : Nat) (u : Nat → Nat) : Nat → Nat := fun i => if 50 ≤ i then u 23 + 1 + (i - 50) else if 40 ≤ i then u (i - 39) else [oA, u 0, u 5, u 6, u 7, u 8, u 21, u 22, u 23, u 24, u 36, u 9, u 18, u 19, u 20, u 33, u 34, u 35].getD i 0
def ad0 (mA : Nat) (v : Nat → Nat) : Nat → Nat := fun i => if i = 0 then mA else v (i - 1)
def xtr0 (u : Nat → Nat) : Nat → Option Nat := va_up (va_up (va_up (va_up (fun _ => none) 0 (some (u 1))) 1 (some (u 2))) 2 (some (u 3))) 3 (some (u 4))
theorem st_tr (oA : Nat) (u : Nat → Nat) : ∀ j, j < 4 → xtr0 u j = some (ax0 oA u (40 + j)) := fun j hj => by
  rcases (show j = 0 ∨ j = 1 ∨ j = 2 ∨ j = 3 by omega) with rfl | rfl | rfl | rfl <;> rfl
theorem st_ways (oA : Nat) (u : Nat → Nat) : (fun k => some (u 23 + 1 + k)) = fun k => some (ax0 oA u (50 + k)) := funext fun k => by
  show some (u 23 + 1 + k) = some (if 50 ≤ 50 + k then u 23 + 1 + (50 + k - 50) else _)
  rw [if_pos (by omega), show 50 + k - 50 = k by omega]
end R60
/-! the tables and the start -/
section R61
variable {s : State} {b : Nat}
theorem tb_in {α : Type} (xs : List α) (f : α → Cond) (ps : List Nat) (h : xs.map f = ps.filterMap (fun i => lw_tbl[i]?)) : ∀ x ∈ xs, f x ∈ lw_tbl := fun x hx => by
  have h1 : f x ∈ xs.map f := List.mem_map_of_mem hx
  rw [h] at h1
  obtain ⟨i, -, hi⟩ := List.mem_filterMap.mp h1
  exact List.mem_of_getElem? hi
theorem st_pr {ty : FieldType} (h : (Cond.arrayClass ty).before #[Value.ref b] s = true) (hn : ∀ C, ty ≠ .object C) : ∃ cA : ClassId, ArrOfT s cA ty ∧ va_RA s cA ty := by
  obtain ⟨cA, kA, comp, h1, h2, h3⟩ := Cond.arrayClass_spec h
  refine ⟨cA, fun n z => ⟨fun k h => (by cases h), kA, h2, comp, h3⟩, ?_⟩
  cases ty with
  | object C => exact absurd rfl (hn C)
  | _ => exact h1
theorem st_ob {C : String} (h : (Cond.arrayOver (.object C)).before #[Value.ref b] s = true) : ∃ cA : ClassId, ArrOfT s cA (.object C) ∧ va_RA s cA (.object C) := by
  obtain ⟨comp, cA, kA, f1, -, f2, f3, f4⟩ := Cond.arrayOver_spec h
  exact ⟨cA, fun n z => ⟨fun k h => (by cases h), kA, f2, comp, f3⟩, ⟨kA, comp, f2, f3, f1, f4⟩⟩
theorem st_al (h : zAL s) : ∃ cA : ClassId, ArrOfT s cA (.array .long) ∧ va_RA s cA (.array .long) := by
  unfold zAL Cond.before at h
  simp only [Cond.holds, Cond.value, beq_iff_eq] at h
  cases hc : s.vm.findClass (FieldType.array .long).toString with
  | none => simp [hc] at h
  | some comp =>
    simp only [hc, Option.bind_some, Option.bind_eq_some_iff, Option.map_eq_some_iff] at h
    obtain ⟨c, hi, k, hk, hb⟩ := h
    obtain ⟨hlt, hp, -⟩ := Array.findIdx?_eq_some_iff_getElem.mp hi
    have hkk : s.vm.classes[c] = k := (Array.getElem?_eq_some_iff.mp hk).2
    rw [hkk] at hp
    cases hkind : k.kind with
    | array component ty =>
      rw [hkind] at hb hp
      simp at hb hp
      refine ⟨c, fun n z => ⟨fun k h => (by cases h), k, hk, comp, by rw [hkind, hp, hb.1]⟩, ?_⟩
      exact hb.2
    | _ => rw [hkind] at hb; simp at hb
/-- the strings of the claim's start, in the order that it names them -/
def zOrd : List Nat := [10, 11, 12, 13, 14, 15, 16, 17, 18, 0, 1, 2, 3, 4, 5, 6, 7, 8, 9, 19, 20, 21, 22]
def zTm (i : Nat) : Term := .string (zST.getD i ("", 0, "")).1 (zST.getD i ("", 0, "")).2.1
def zF (i : Nat) : Term := .field (zTm i) "java/lang/String" "value" "[B"
def zWant1 (t : Nat) : List Cond := [.exactly (zTm (zOrd.getD t 0)) "java/lang/String", .eq (.field (zTm (zOrd.getD t 0)) "java/lang/String" "coder" "B") (.int 0), .arrayOf (zF (zOrd.getD t 0)) .byte, .eq (.length (zF (zOrd.getD t 0))) (.int (Int32.ofNat (zLen.getD (zOrd.getD t 0) 0)))] ++ (List.range (zLen.getD (zOrd.getD t 0) 0)).map (fun j => .eq (.elem (zF (zOrd.getD t 0)) (.int (Int32.ofNat j))) (.int ((zByt.getD (zOrd.getD t 0) []).getD j 0))) ++ (List.range t).map (fun v => .not (.eq (zTm (zOrd.getD v 0)) (zTm (zOrd.getD t 0))))
set_option maxRecDepth 100000 in
theorem zWant_eq : (flatC (Cond.and given_1 narrow_1)).drop 229 = (List.range 23).flatMap zWant1 := by decide +kernel
theorem zWant_in {t : Nat} (ht : t < 23) {q : Cond} (h : q ∈ zWant1 t) : q ∈ flatC (Cond.and given_1 narrow_1) := by
  refine List.mem_of_mem_drop (i := 229) ?_
  rw [zWant_eq]
  exact List.mem_flatMap.mpr ⟨t, List.mem_range.mpr ht, h⟩
theorem zOrd_inv : ∀ i, i < 23 → ∃ t, t < 23 ∧ zOrd.getD t 0 = i := by decide
theorem zLen_31 : ∀ i, i < 23 → zLen.getD i 0 < 2 ^ 31 := fun i hi => Nat.lt_of_le_of_lt (zlen_116 i hi) (by decide)
theorem st_str (hs : ∀ c ∈ flatC (Cond.and given_1 narrow_1), c.before #[Value.ref b] s = true) : ∃ adK adV : Nat → Nat, vk_S 23 zLen zByt adK adV (fun q : Nat => s.heap.size ≤ q) s s.heap ∧ ∀ i : Nat, i < 23 → (zTm i).eval #[Value.ref b] s none [] s = some (.ref (adK i)) := by
  have h1 : ∀ i, i < 23 → ∃ t, t < 23 ∧ zOrd.getD t 0 = i := zOrd_inv
  refine vk_Sof (args := #[Value.ref b]) (tm := zTm) zLen_31 (fun i hi => ?_) (fun i hi => ?_) (fun i hi => ?_) (fun i hi => ?_) (fun i hi j hj => ?_) (fun i j hi hj hij => ?_) (fun a h1 h2 => absurd h1 (Nat.not_lt.mpr h2))
  · obtain ⟨t, ht, rfl⟩ := h1 i hi
    exact hs _ (zWant_in ht (List.mem_append_left _ (List.mem_append_left _ (List.mem_of_getElem? (i := 0) rfl))))
  · obtain ⟨t, ht, rfl⟩ := h1 i hi
    exact hs _ (zWant_in ht (List.mem_append_left _ (List.mem_append_left _ (List.mem_of_getElem? (i := 1) rfl))))
  · obtain ⟨t, ht, rfl⟩ := h1 i hi
    exact hs _ (zWant_in ht (List.mem_append_left _ (List.mem_append_left _ (List.mem_of_getElem? (i := 2) rfl))))
  · obtain ⟨t, ht, rfl⟩ := h1 i hi
    exact hs _ (zWant_in ht (List.mem_append_left _ (List.mem_append_left _ (List.mem_of_getElem? (i := 3) rfl))))
  · obtain ⟨t, ht, rfl⟩ := h1 i hi
    exact hs _ (zWant_in ht (List.mem_append_left _ (List.mem_append_right _ (List.mem_map.mpr ⟨j, List.mem_range.mpr hj, rfl⟩))))
  · obtain ⟨t, ht, rfl⟩ := h1 i hi
    obtain ⟨v, hv, rfl⟩ := h1 j hj
    have hne : ¬ t = v := fun q => hij (by rw [q])
    rcases Nat.lt_or_ge t v with c | c
    · exact Or.inl (hs _ (zWant_in hv (List.mem_append_right _ (List.mem_map.mpr ⟨t, List.mem_range.mpr c, rfl⟩))))
    · exact Or.inr (hs _ (zWant_in ht (List.mem_append_right _ (List.mem_map.mpr ⟨v, List.mem_range.mpr (by omega), rfl⟩))))
theorem zNC_in : ∀ q ∈ zNC, Cond.not (.castable q.1 q.2) ∈ flatC (Cond.and given_1 narrow_1) := by decide +kernel
theorem zst_tm (i : Nat) (q : String × Nat × String) (h : zST[i]? = some q) : i < 23 ∧ Term.string q.1 q.2.1 = zTm i := by
  have hi : i < zST.length := (List.getElem?_eq_some_iff.mp h).1
  refine ⟨hi, ?_⟩
  unfold zTm
  rw [List.getD_eq_getElem?_getD, h]
  rfl
end R61
