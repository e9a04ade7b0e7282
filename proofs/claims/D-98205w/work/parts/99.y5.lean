set_option maxHeartbeats 4000000 in
set_option maxRecDepth 100000 in
theorem mt_readYear {α : Type} (l : Launch) (G : zG) (χ : yK) (hχ : yOKx χ) (tr : α → Nat → va_W → Prop) (wf : α → Prop) (stp : yR → yR × Option α) (Ds : Nat) (hcls : ∀ t a w, tr t a w → ∃ (ci : Nat) (fs : List Value) (r : vw_C), (a, .inr (ci, fs)) ∈ w ∧ zcl[ci]? = some r ∧ (r.1, "WindowHill$Step") ∈ zCA) (hstp : zStpOK l G χ 0 Ds tr wf stp) (hmono : ∀ ρ, ρ.2.2.2.2.1 ≤ (stp ρ).1.2.2.2.2.1) (ρ : yR) (b q : Nat) (hρ : yOKr χ ρ) (h30 : ρ.2.2.2.2.1 ≤ 30) (sz : Nat) : vx_Met l yX8_year (ws_ yX8_year cX8_year 3 none) (zR (Ds + 1) (3 * ((yKi (fun ρ => decide (ρ.2.2.1 = 0)) stp ((χ.1 0) - ρ.1 + 1) ρ []).1.2.2.2.2.1 - ρ.2.2.2.2.1)) (80 * ((yKi (fun ρ => decide (ρ.2.2.1 = 0)) stp ((χ.1 0) - ρ.1 + 1) ρ []).1.2.2.2.2.1 - ρ.2.2.2.2.1))) (zPm G sz [.ref (χ.1 10), .ref (χ.1 22), .ref b] (zRT G χ ρ ++ (zBk G b q 0 (.inl 1) ++ (zAr G q 4 [] ++ [])))) (zQe G (fun u : (Nat × Nat) × (List Nat × va_W) => ∃ cs, (yKi (fun ρ => decide (ρ.2.2.1 = 0)) stp ((χ.1 0) - ρ.1 + 1) ρ []).2 = some cs ∧ zCh tr cs u.2.1 u.2.2 ∧ (∀ x ∈ cs, wf x) ∧ u.2.1.length ≤ u.1.2 ∧ u.1.2 ≤ 64 ∧ yOKr χ (yKi (fun ρ => decide (ρ.2.2.1 = 0)) stp ((χ.1 0) - ρ.1 + 1) ρ []).1 ∧ (yKi (fun ρ => decide (ρ.2.2.1 = 0)) stp ((χ.1 0) - ρ.1 + 1) ρ []).1.2.2.2.2.1 ≤ 30 ∧ u.2.1.length ≤ (yKi (fun ρ => decide (ρ.2.2.1 = 0)) stp ((χ.1 0) - ρ.1 + 1) ρ []).1.2.2.2.2.1) (fun _ => none) (fun u => zRT G χ (yKi (fun ρ => decide (ρ.2.2.1 = 0)) stp ((χ.1 0) - ρ.1 + 1) ρ []).1 ++ (zBk G b u.1.1 u.2.1.length (.inl 1) ++ (zAr G u.1.1 u.1.2 u.2.1 ++ u.2.2))) (va_A (zRT G χ ρ ++ (zBk G b q 0 (.inl 1) ++ (zAr G q 4 [] ++ []))) sz)) (zXe G (fun _ : (Nat × Nat) × (List Nat × va_W) => (yKi (fun ρ => decide (ρ.2.2.1 = 0)) stp ((χ.1 0) - ρ.1 + 1) ρ []).2 = none) RX2 (χ.1 14) (fun _ => zRT G χ (yKi (fun ρ => decide (ρ.2.2.1 = 0)) stp ((χ.1 0) - ρ.1 + 1) ρ []).1) (va_A (zRT G χ ρ ++ (zBk G b q 0 (.inl 1) ++ (zAr G q 4 [] ++ []))) sz)) (3 * ((yKi (fun ρ => decide (ρ.2.2.1 = 0)) stp ((χ.1 0) - ρ.1 + 1) ρ []).1.2.2.2.2.1 - ρ.2.2.2.2.1)) (80 * ((yKi (fun ρ => decide (ρ.2.2.1 = 0)) stp ((χ.1 0) - ρ.1 + 1) ρ []).1.2.2.2.2.1 - ρ.2.2.2.2.1)) (va_A (zRT G χ ρ ++ (zBk G b q 0 (.inl 1) ++ (zAr G q 4 [] ++ []))) sz) := by
  refine zr_entXE (by decide) (Nat.le_of_ble_eq_true rfl) ?_
  intro p e s m below meth c ⟨hx, hb, hr, hml, hown, hts, hlocks, hnm⟩ hout ls hl hP hK A hE hA hD hS
  have hown : s.vm.findClass RX8 = some m.cls := hown
  have hl : lv_has ls 3 [(0, .ref (χ.1 10)), (1, .ref (χ.1 22)), (2, .ref b)] := hl
  obtain ⟨H, hH⟩ : ∃ H, H = s.heap := ⟨_, rfl⟩
  obtain ⟨locs, hlo⟩ : ∃ L : List Loc, L = [] := ⟨_, rfl⟩
  rw [← hH] at hP
  have hS : va_S A s.heap H locs := by rw [hH, hlo]; exact va_S.rf
  have hgo : W p l e (zR (Ds + 1) (3 * ((yKi (fun ρ => decide (ρ.2.2.1 = 0)) stp ((χ.1 0) - ρ.1 + 1) ρ []).1.2.2.2.2.1 - ρ.2.2.2.2.1)) (80 * ((yKi (fun ρ => decide (ρ.2.2.1 = 0)) stp ((χ.1 0) - ρ.1 + 1) ρ []).1.2.2.2.2.1 - ρ.2.2.2.2.1))) s m ([.ref (χ.1 10), .ref (χ.1 22), .ref b] : List Value).toArray below meth c H locs 0 0 (vx_MQ below (zQe G (fun u : (Nat × Nat) × (List Nat × va_W) => ∃ cs, (yKi (fun ρ => decide (ρ.2.2.1 = 0)) stp ((χ.1 0) - ρ.1 + 1) ρ []).2 = some cs ∧ zCh tr cs u.2.1 u.2.2 ∧ (∀ x ∈ cs, wf x) ∧ u.2.1.length ≤ u.1.2 ∧ u.1.2 ≤ 64 ∧ yOKr χ (yKi (fun ρ => decide (ρ.2.2.1 = 0)) stp ((χ.1 0) - ρ.1 + 1) ρ []).1 ∧ (yKi (fun ρ => decide (ρ.2.2.1 = 0)) stp ((χ.1 0) - ρ.1 + 1) ρ []).1.2.2.2.2.1 ≤ 30 ∧ u.2.1.length ≤ (yKi (fun ρ => decide (ρ.2.2.1 = 0)) stp ((χ.1 0) - ρ.1 + 1) ρ []).1.2.2.2.2.1) (fun _ => none) (fun u => zRT G χ (yKi (fun ρ => decide (ρ.2.2.1 = 0)) stp ((χ.1 0) - ρ.1 + 1) ρ []).1 ++ (zBk G b u.1.1 u.2.1.length (.inl 1) ++ (zAr G u.1.1 u.1.2 u.2.1 ++ u.2.2))) A) (zXe G (fun _ : (Nat × Nat) × (List Nat × va_W) => (yKi (fun ρ => decide (ρ.2.2.1 = 0)) stp ((χ.1 0) - ρ.1 + 1) ρ []).2 = none) RX2 (χ.1 14) (fun _ => zRT G χ (yKi (fun ρ => decide (ρ.2.2.1 = 0)) stp ((χ.1 0) - ρ.1 + 1) ρ []).1) A) ([.ref (χ.1 10), .ref (χ.1 22), .ref b] : List Value).toArray s (3 * ((yKi (fun ρ => decide (ρ.2.2.1 = 0)) stp ((χ.1 0) - ρ.1 + 1) ρ []).1.2.2.2.2.1 - ρ.2.2.2.2.1)) (80 * ((yKi (fun ρ => decide (ρ.2.2.1 = 0)) stp ((χ.1 0) - ρ.1 + 1) ρ []).1.2.2.2.2.1 - ρ.2.2.2.2.1)) A) (F0 m 0 ls []) := ?_
  · rw [hH, hlo] at hgo; exact hgo
  clear hH hlo
  obtain ⟨K0, hKe⟩ : ∃ K0, (yKi (fun ρ => decide (ρ.2.2.1 = 0)) stp ((χ.1 0) - ρ.1 + 1) ρ []) = K0 := ⟨_, rfl⟩
  have hJ : ∀ (f : Nat) (ρk : yR) (cs : List α) (q cap : Nat) (as : List Nat) (ks : va_W), (χ.1 0) - ρk.1 < f → yKi (fun ρ => decide (ρ.2.2.1 = 0)) stp f ρk cs = K0 → zCh tr cs as ks → zKc ks as → (∀ x ∈ cs, wf x) → as.length ≤ cap → 1 ≤ cap → cap ≤ 64 → as.length ≤ ρk.2.2.2.2.1 → yOKr χ ρk → ρ.2.2.2.2.1 ≤ ρk.2.2.2.2.1 → ρk.2.2.2.2.1 ≤ 30 → ∀ (H : Heap) (locs : List Loc) (cells slots : Nat), cells ≤ 3 * (ρk.2.2.2.2.1 - ρ.2.2.2.2.1) → slots ≤ 80 * (ρk.2.2.2.2.1 - ρ.2.2.2.2.1) → va_P G.1 zcl (zRT G χ ρk ++ (zBk G b q as.length (.inl 1) ++ (zAr G q cap as ++ ks))) H → va_D A (zRT G χ ρk ++ (zBk G b q as.length (.inl 1) ++ (zAr G q cap as ++ ks))) → va_S A s.heap H locs → ∀ ls : Array Slot, lv_has ls 3 [(0, .ref (χ.1 10)), (1, .ref (χ.1 22)), (2, .ref b)] → W p l e (zR (Ds + 1) (3 * ((yKi (fun ρ => decide (ρ.2.2.1 = 0)) stp ((χ.1 0) - ρ.1 + 1) ρ []).1.2.2.2.2.1 - ρ.2.2.2.2.1)) (80 * ((yKi (fun ρ => decide (ρ.2.2.1 = 0)) stp ((χ.1 0) - ρ.1 + 1) ρ []).1.2.2.2.2.1 - ρ.2.2.2.2.1))) s m ([.ref (χ.1 10), .ref (χ.1 22), .ref b] : List Value).toArray below meth c H locs cells slots (vx_MQ below (zQe G (fun u : (Nat × Nat) × (List Nat × va_W) => ∃ cs, (yKi (fun ρ => decide (ρ.2.2.1 = 0)) stp ((χ.1 0) - ρ.1 + 1) ρ []).2 = some cs ∧ zCh tr cs u.2.1 u.2.2 ∧ (∀ x ∈ cs, wf x) ∧ u.2.1.length ≤ u.1.2 ∧ u.1.2 ≤ 64 ∧ yOKr χ (yKi (fun ρ => decide (ρ.2.2.1 = 0)) stp ((χ.1 0) - ρ.1 + 1) ρ []).1 ∧ (yKi (fun ρ => decide (ρ.2.2.1 = 0)) stp ((χ.1 0) - ρ.1 + 1) ρ []).1.2.2.2.2.1 ≤ 30 ∧ u.2.1.length ≤ (yKi (fun ρ => decide (ρ.2.2.1 = 0)) stp ((χ.1 0) - ρ.1 + 1) ρ []).1.2.2.2.2.1) (fun _ => none) (fun u => zRT G χ (yKi (fun ρ => decide (ρ.2.2.1 = 0)) stp ((χ.1 0) - ρ.1 + 1) ρ []).1 ++ (zBk G b u.1.1 u.2.1.length (.inl 1) ++ (zAr G u.1.1 u.1.2 u.2.1 ++ u.2.2))) A) (zXe G (fun _ : (Nat × Nat) × (List Nat × va_W) => (yKi (fun ρ => decide (ρ.2.2.1 = 0)) stp ((χ.1 0) - ρ.1 + 1) ρ []).2 = none) RX2 (χ.1 14) (fun _ => zRT G χ (yKi (fun ρ => decide (ρ.2.2.1 = 0)) stp ((χ.1 0) - ρ.1 + 1) ρ []).1) A) ([.ref (χ.1 10), .ref (χ.1 22), .ref b] : List Value).toArray s (3 * ((yKi (fun ρ => decide (ρ.2.2.1 = 0)) stp ((χ.1 0) - ρ.1 + 1) ρ []).1.2.2.2.2.1 - ρ.2.2.2.2.1)) (80 * ((yKi (fun ρ => decide (ρ.2.2.1 = 0)) stp ((χ.1 0) - ρ.1 + 1) ρ []).1.2.2.2.2.1 - ρ.2.2.2.2.1)) A) (F0 m 0 ls []) := by
    intro f
    induction f with
    | zero => intro ρk cs q cap as ks hf; exact absurd hf (Nat.not_lt_zero _)
    | succ f ih =>
      intro ρk cs q cap as ks hf hK0 hch hkc hwf hcap hc1 hc64 hal hρk hsk h30k H locs cells slots hce hsl hP hD hS ls hl
      have hmk := yKi_mono (isE := (fun ρ => decide (ρ.2.2.1 = 0))) hmono (f + 1) ρk cs
      rw [hK0] at hmk
      refine lv_aload_n hx hb dX8_year_0 rfl (lv_at hl 0 rfl) ?_
      refine va_get (D := G.1) (ci := 8) (v := .int ρk.2.2.1) (C := RX8) (T := TX8) (N := 8) hx hb hts in_X8 hown hK.1 hP 0 rfl rfl 3 (Nat.le_of_ble_eq_true rfl) (hts _ q652) (fun _ h => h) rfl dX8_year_1 ?_
      refine lv_if_eq (tgt := 17) hx hb dX8_year_4 (by decide) (fun hs => ?_) (fun hs => ?_)
      · have hk2 : K0 = (ρk, some cs) := by rw [← hK0]; unfold yKi; rw [if_pos (decide_eq_true hs)]
        have e_ : (yKi (fun ρ => decide (ρ.2.2.1 = 0)) stp ((χ.1 0) - ρ.1 + 1) ρ []) = (ρk, some cs) := hKe.trans hk2
        refine vx_ret ?_
        refine zr_env ((q, cap), (as, ks)) hx hb hr hlocks ?_ ?_ hS dX8_year_17 rfl ⟨cs, ?_⟩ ?_ ?_
        · rw [e_]; exact hP
        · rw [e_]; exact hD
        · rw [e_]; exact ⟨rfl, hch, hwf, hcap, hc64, hρk, h30k, hal⟩
        · rw [e_]; exact hce
        · rw [e_]; exact hsl
      · have hse : ¬ (fun ρ => decide (ρ.2.2.1 = 0)) ρk = true := fun q9 => hs (of_decide_eq_true q9)
        have hss := yKi_st (isE := (fun ρ => decide (ρ.2.2.1 = 0))) hmono (f := f) (cs := cs) hse
        rw [hK0] at hss
        have hM := hstp ρk (.inl 1) b q cap as ks hρk h30k hal hcap hc1 hc64 hkc H.size
        have hun : yKi (fun ρ => decide (ρ.2.2.1 = 0)) stp (f + 1) ρk cs = zlet (stp ρk) (fun r => zoc r.2 (r.1, none) (fun t => yKi (fun ρ => decide (ρ.2.2.1 = 0)) stp f r.1 (cs ++ [t]))) := by rw [yKi, if_neg hse]
        have hms := hmono ρk
        obtain ⟨r, hr9⟩ : ∃ r, stp ρk = r := ⟨_, rfl⟩
        rw [hr9] at hss hM hun hms
        rw [hK0] at hun
        refine lv_aload_n hx hb dX8_year_7 rfl (lv_at hl 0 rfl) ?_
        refine lv_aload_n hx hb dX8_year_8 rfl (lv_at hl 1 rfl) ?_
        refine lv_aload_n hx hb dX8_year_9 rfl (lv_at hl 2 rfl) ?_
        refine lv_iconst (v := 0) hx hb dX8_year_10 (by decide) ?_
        refine zr_muXEV (S := (Nat × Nat × Nat) × va_W) (wr := []) (wn := fun u => zRT G χ r.1 ++ (zBk G b u.1.1 (as.length + 1) (.inl 1) ++ (zAr G u.1.1 u.1.2.1 (as ++ [u.1.2.2]) ++ (ks ++ u.2)))) (wnx := fun _ => zRT G χ r.1) (List.Perm.refl _) (fun u => List.Perm.refl _) (fun _ => List.Perm.refl _) ⟨hx, hb, hml, hown, hts⟩ hM (cwV 3 hts (lw_V q899 q901 qs29 q151 q902) rfl rfl rfl hd_X8_step ⟨by show Ds + 1 ≤ Ds + 1; omega, by show 8 + (7 + 11) + 64 * Ds ≤ 64 * (Ds + 1); omega⟩) hP hD hS hA hK hE 0 8 rfl rfl rfl hl.1 rfl (Nat.le_of_ble_eq_true rfl) dX8_year_11 ⟨by show cells + 3 * (r.1.2.2.2.2.1 - ρk.2.2.2.2.1) ≤ 3 * ((yKi (fun ρ => decide (ρ.2.2.1 = 0)) stp ((χ.1 0) - ρ.1 + 1) ρ []).1.2.2.2.2.1 - ρ.2.2.2.2.1); rw [hKe]; omega, by show slots + 80 * (r.1.2.2.2.2.1 - ρk.2.2.2.2.1) ≤ 80 * ((yKi (fun ρ => decide (ρ.2.2.1 = 0)) stp ((χ.1 0) - ρ.1 + 1) ρ []).1.2.2.2.2.1 - ρ.2.2.2.2.1); rw [hKe]; omega⟩ (fun u hfu H locs hP hD hS _ => ?_) (fun u hfu H locs hP hD hS _ => ?_)
        · obtain ⟨t, hrt, htr, hwft, haf, hpr, hl1, hl2, hl3⟩ := hfu
          obtain ⟨ci, fs, r5, hm5, hr5, hc5⟩ := hcls t _ _ htr
          rw [zlet_eq rfl, zoc_s hrt] at hun
          have hlen9 : (as ++ [u.1.2.2]).length = as.length + 1 := by rw [List.length_append]; rfl
          refine lv_goto (tgt := 0) hx hb dX8_year_14 (by decide) ?_
          refine ih r.1 (cs ++ [t]) u.1.1 u.1.2.1 (as ++ [u.1.2.2]) (ks ++ u.2) (by have := hρk.2.1; have := haf.1.1; have := haf.1.2.1; omega) hun.symm (zCh_app htr hch) (zKc_app hkc hm5 hr5 hc5) (fun x hx9 => ?_) (by omega) (by omega) hl2 (by omega) haf.1 (by omega) haf.2.2.2 H locs _ _ (by show cells + 3 * (r.1.2.2.2.2.1 - ρk.2.2.2.2.1) ≤ _; omega) (by show slots + 80 * (r.1.2.2.2.2.1 - ρk.2.2.2.2.1) ≤ _; omega) (by rw [hlen9]; exact hP) (by rw [hlen9]; exact hD) hS ls hl
          rcases List.mem_append.mp hx9 with h9 | h9
          · exact hwf x h9
          · rw [List.mem_singleton.mp h9]; exact hwft
        · have hfu : r.2 = none := hfu
          rw [zlet_eq rfl, zoc_n hfu] at hun
          have e_ : (yKi (fun ρ => decide (ρ.2.2.1 = 0)) stp ((χ.1 0) - ρ.1 + 1) ρ []) = (r.1, none) := hKe.trans hun
          exact zr_xend ((0, 0), ([], [])) hout hlocks hK hP hD hS 3 2 rfl rfl (fun h => by rw [e_]; exact h) (fun h => by rw [e_]; exact h) (by rw [e_]) (by rw [e_]; show cells + 3 * (r.1.2.2.2.2.1 - ρk.2.2.2.2.1) ≤ 3 * (r.1.2.2.2.2.1 - ρ.2.2.2.2.1); omega) (by rw [e_]; show slots + 80 * (r.1.2.2.2.2.1 - ρk.2.2.2.2.1) ≤ 80 * (r.1.2.2.2.2.1 - ρ.2.2.2.2.1); omega)
  exact hJ ((χ.1 0) - ρ.1 + 1) ρ [] q 4 [] [] (Nat.lt_succ_self _) hKe ⟨rfl, rfl⟩ (fun i x hx9 => by simp at hx9) (fun x hx9 => by simp at hx9) (by decide) (by decide) (by decide) (Nat.zero_le _) hρ (Nat.le_refl _) h30 H locs 0 0 (Nat.zero_le _) (Nat.zero_le _) hP hD hS ls hl
