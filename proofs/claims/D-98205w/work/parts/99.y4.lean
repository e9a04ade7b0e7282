theorem zAr_nil : (fun i : Nat => ([] : List Nat)[i]?) = fun _ => none := by funext i; simp
theorem zTS_bk {α : Type} {G : zG} {tc : α → Nat → va_W → Prop} {cs : List α} {as : List Nat} {ks : va_W} {q cap : Nat} (h1 : as.length ≤ cap) (h2 : cap ≤ 64) (h3 : zCh tc cs as ks) (a : Nat) (bh : yHb) : zTS G tc (yTb (bh, cs)) a (zBk G a q as.length bh ++ (zAr G q cap as ++ ks)) := by
  cases bh with
  | inl n => exact ⟨q, cap, as, ks, h1, h2, h3, rfl⟩
  | inr w => exact ⟨q, cap, as, ks, h1, h2, h3, rfl⟩
theorem yWfS_bk {α : Type} {nr : Nat} {wf : α → Prop} {cs : List α} (bh : yHb) (h : ∀ n, bh = .inl n → n ≤ 99) (hw : ∀ x ∈ cs, wf x) : yWfS nr wf (yTb (bh, cs)) := by
  cases bh with
  | inl n => exact ⟨h n rfl, hw⟩
  | inr w => exact hw
theorem yKi_mono {α : Type} {isE : yR → Bool} {stp : yR → yR × Option α} (hm : ∀ ρ, ρ.2.2.2.2.1 ≤ (stp ρ).1.2.2.2.2.1) : ∀ (f : Nat) (ρ : yR) (cs : List α), ρ.2.2.2.2.1 ≤ (yKi isE stp f ρ cs).1.2.2.2.2.1
  | 0, ρ, cs => Nat.le_refl _
  | f + 1, ρ, cs => by
    unfold yKi
    split
    · exact Nat.le_refl _
    · unfold zlet zoc
      have h := hm ρ
      generalize stp ρ = r at h ⊢
      obtain ⟨r1, r2⟩ := r
      cases r2 with
      | none => exact h
      | some t => exact Nat.le_trans h (yKi_mono hm f _ _)
theorem yKi_st {α : Type} {isE : yR → Bool} {stp : yR → yR × Option α} (hm : ∀ ρ, ρ.2.2.2.2.1 ≤ (stp ρ).1.2.2.2.2.1) {f : Nat} {ρ : yR} {cs : List α} (h : ¬ isE ρ = true) : (stp ρ).1.2.2.2.2.1 ≤ (yKi isE stp (f + 1) ρ cs).1.2.2.2.2.1 := by
  unfold yKi
  rw [if_neg h]
  unfold zlet zoc
  generalize stp ρ = r
  obtain ⟨r1, r2⟩ := r
  cases r2 with
  | none => exact Nat.le_refl _
  | some t => exact yKi_mono hm f _ _
theorem zKc_app {ks w : va_W} {as : List Nat} {a ci : Nat} {fs : List Value} {r : vw_C} (h : zKc ks as) (hm : (a, .inr (ci, fs)) ∈ w) (hr : zcl[ci]? = some r) (hc : (r.1, "WindowHill$Step") ∈ zCA) : zKc (ks ++ w) (as ++ [a]) := by
  intro i x hx
  by_cases c : i < as.length
  · rw [List.getElem?_append_left c] at hx
    obtain ⟨ci', fs', r', h1, h2, h3⟩ := h i x hx
    exact ⟨ci', fs', r', List.mem_append_left _ h1, h2, h3⟩
  · rw [List.getElem?_append_right (by omega)] at hx
    have e : x = a := by
      cases hk : i - as.length with
      | zero => rw [hk] at hx; exact (Option.some.inj hx).symm
      | succ n => rw [hk] at hx; simp at hx
    subst e
    exact ⟨ci, fs, r, List.mem_append_right _ hm, hr, hc⟩
theorem yNx_st {χ : yK} {ρ : yR} : (yNx χ ρ).2.2.2.2.1 = ρ.2.2.2.2.1 := rfl
theorem yCl_st {χ : yK} {ρ : yR} : (yCl χ ρ).2.2.2.2.2.1 = ρ.2.2.2.2.1 := rfl
theorem yHd_st {χ : yK} {w : Bool} {ρ : yR} : (yHd χ w ρ).1.2.2.2.2.1 = ρ.2.2.2.2.1 := by
  unfold yHd
  split <;> rfl
theorem yBl_mono {α : Type} {χ : yK} {stp : yR → yR × Option α} (hm : ∀ ρ, ρ.2.2.2.2.1 ≤ (stp ρ).1.2.2.2.2.1) (w : Bool) (ρ : yR) : ρ.2.2.2.2.1 ≤ (yBt (yBl χ stp w ρ)).1.2.2.2.2.1 := by
  show ρ.2.2.2.2.1 ≤ (yBl χ stp w ρ).1.2.2.2.2.1
  have h0 : (yHd χ w (yNx χ ρ)).1.2.2.2.2.1 = ρ.2.2.2.2.1 := yHd_st
  unfold yBl
  unfold zlet zoc
  generalize yHd χ w (yNx χ ρ) = hd at h0
  obtain ⟨ρ1, ho⟩ := hd
  have h0 : ρ1.2.2.2.2.1 = ρ.2.2.2.2.1 := h0
  cases ho with
  | none => exact Nat.le_of_eq h0.symm
  | some hh =>
    dsimp only
    have h1 : (yCl χ ρ1).2.2.2.2.2.1 = ρ.2.2.2.2.1 := h0
    generalize yCl χ ρ1 = cl at h1
    split
    · have h2 := yKi_mono (isE := fun ρ => yWd χ ρ 21) hm ((χ.1 0) - cl.2.1 + 1) cl.2 []
      generalize yKi (fun ρ => yWd χ ρ 21) stp ((χ.1 0) - cl.2.1 + 1) cl.2 [] = k at h2
      obtain ⟨ρ3, ko⟩ := k
      have h2 : cl.2.2.2.2.2.1 ≤ ρ3.2.2.2.2.1 := h2
      cases ko with
      | none => show ρ.2.2.2.2.1 ≤ ρ3.2.2.2.2.1; omega
      | some cs => show ρ.2.2.2.2.1 ≤ ρ3.2.2.2.2.1; omega
    · show ρ.2.2.2.2.1 ≤ cl.2.2.2.2.2.1; omega
theorem hd_X8_step : yX8_step.cls = RX8 ∧ yX8_step.cls ≠ "java/lang/invoke/MethodHandle" ∧ yX8_step.cls ≠ "java/lang/invoke/VarHandle" ∧ (parseMethodDescriptor yX8_step.desc).map (fun d => d.parameters.length) = some 3 := by decide +kernel
set_option maxHeartbeats 4000000 in
set_option maxRecDepth 100000 in
theorem mt_blockS {α : Type} (l : Launch) (G : zG) (χ : yK) (hχ : yOKx χ) (tr : α → Nat → va_W → Prop) (wf : α → Prop) (stp : yR → yR × Option α) (wi Ds : Nat) (hwi : wi ≤ 2) (hcls : ∀ t a w, tr t a w → ∃ (ci : Nat) (fs : List Value) (r : vw_C), (a, .inr (ci, fs)) ∈ w ∧ zcl[ci]? = some r ∧ (r.1, "WindowHill$Step") ∈ zCA) (hstp : zStpOK l G χ (wi + 1) Ds tr wf stp) (hmono : ∀ ρ, ρ.2.2.2.2.1 ≤ (stp ρ).1.2.2.2.2.1) (hDs : 9 ≤ Ds) : zBlkOK l G χ wi (Ds + 12) (zTS G tr) (yWfS (χ.1 3) wf) (fun w ρ => yBt (yBl χ stp w ρ)) := by
  intro w ρ hρ h30 hs0 sz
  refine zr_entXE (by decide) (Nat.le_of_ble_eq_true rfl) ?_
  intro p e s m below meth c ⟨hx, hb, hr, hml, hown, hts, hlocks, hnm⟩ hout ls hl hP hK A hE hA hD hS
  have hown : s.vm.findClass RX8 = some m.cls := hown
  have hl : lv_has ls 5 [(0, .ref (χ.1 10)), (1, .ref (χ.1 22)), (2, .int (zb w)), (3, .int (nI wi))] := hl
  obtain ⟨H, hH⟩ : ∃ H, H = s.heap := ⟨_, rfl⟩
  obtain ⟨locs, hlo⟩ : ∃ L : List Loc, L = [] := ⟨_, rfl⟩
  rw [← hH] at hP
  have hS : va_S A s.heap H locs := by rw [hH, hlo]; exact va_S.rf
  have hgo : W p l e (zR (Ds + 12) (2 + 3 * ((yBt (yBl χ stp w ρ)).1.2.2.2.2.1 - ρ.2.2.2.2.1)) (9 + 80 * ((yBt (yBl χ stp w ρ)).1.2.2.2.2.1 - ρ.2.2.2.2.1))) s m ([.ref (χ.1 10), .ref (χ.1 22), .int (zb w), .int (nI wi)] : List Value).toArray below meth c H locs 0 0 (vx_MQ below (zQe G (fun u : Nat × va_W => ∃ t, (yBt (yBl χ stp w ρ)).2 = some t ∧ zTS G tr t u.1 u.2 ∧ yWfS (χ.1 3) wf t ∧ yAft χ ρ (yBt (yBl χ stp w ρ)).1) (fun u => some (.ref u.1)) (fun u => zRT G χ (yBt (yBl χ stp w ρ)).1 ++ u.2) A) (zXe G (fun _ : Nat × va_W => (yBt (yBl χ stp w ρ)).2 = none) RX2 (χ.1 14) (fun _ => zRT G χ (yBt (yBl χ stp w ρ)).1) A) ([.ref (χ.1 10), .ref (χ.1 22), .int (zb w), .int (nI wi)] : List Value).toArray s (2 + 3 * ((yBt (yBl χ stp w ρ)).1.2.2.2.2.1 - ρ.2.2.2.2.1)) (9 + 80 * ((yBt (yBl χ stp w ρ)).1.2.2.2.2.1 - ρ.2.2.2.2.1)) A) (F0 m 0 ls []) := ?_
  · rw [hH, hlo] at hgo; exact hgo
  clear hH hlo
  have hX : ∀ (ρ' : yR), (yBt (yBl χ stp w ρ)) = (ρ', none) → ∀ (TLx : va_W) (pcx : Nat) (rest : List Value) (ls : Array Slot) (H : Heap) (locs : List Loc) (cells slots : Nat), cells ≤ 2 + 3 * (ρ'.2.2.2.2.1 - ρ.2.2.2.2.1) → slots ≤ 9 + 80 * (ρ'.2.2.2.2.1 - ρ.2.2.2.2.1) → va_P G.1 zcl (zRT G χ ρ' ++ TLx) H → va_D A (zRT G χ ρ' ++ TLx) → va_S A s.heap H locs → vx_W p l e (zR (Ds + 12) (2 + 3 * ((yBt (yBl χ stp w ρ)).1.2.2.2.2.1 - ρ.2.2.2.2.1)) (9 + 80 * ((yBt (yBl χ stp w ρ)).1.2.2.2.2.1 - ρ.2.2.2.2.1))) s m ([.ref (χ.1 10), .ref (χ.1 22), .int (zb w), .int (nI wi)] : List Value).toArray below meth c H locs cells slots (vx_MQ below (zQe G (fun u : Nat × va_W => ∃ t, (yBt (yBl χ stp w ρ)).2 = some t ∧ zTS G tr t u.1 u.2 ∧ yWfS (χ.1 3) wf t ∧ yAft χ ρ (yBt (yBl χ stp w ρ)).1) (fun u => some (.ref u.1)) (fun u => zRT G χ (yBt (yBl χ stp w ρ)).1 ++ u.2) A) (zXe G (fun _ : Nat × va_W => (yBt (yBl χ stp w ρ)).2 = none) RX2 (χ.1 14) (fun _ => zRT G χ (yBt (yBl χ stp w ρ)).1) A) ([.ref (χ.1 10), .ref (χ.1 22), .int (zb w), .int (nI wi)] : List Value).toArray s (2 + 3 * ((yBt (yBl χ stp w ρ)).1.2.2.2.2.1 - ρ.2.2.2.2.1)) (9 + 80 * ((yBt (yBl χ stp w ρ)).1.2.2.2.2.1 - ρ.2.2.2.2.1)) A) (F0 m pcx ls rest) (χ.1 14) := by
    intro ρ' e_ TLx pcx rest ls H locs cells slots h1 h2 hP hD hS
    exact zr_xend (0, []) hout hlocks hK hP hD hS 3 2 rfl rfl (fun h => by rw [e_]; exact zP_left h) (fun h => by rw [e_]; exact zD_left h) (by rw [e_]) (by rw [e_]; exact h1) (by rw [e_]; exact h2)
  have hJ36 : ∀ (ρ3 : yR) (bh : yHb) (b : Nat), (∀ n, bh = .inl n → n ≤ 99) → yOKr χ ρ3 → ρ.2.1 ≤ ρ3.1 → ρ3.2.2.2.2.1 = ρ.2.2.2.2.1 → ((yBt (yBl χ stp w ρ)) = zlet (yKi (fun ρ => yWd χ ρ 21) stp ((χ.1 0) - ρ3.1 + 1) ρ3 []) (fun k => zoc k.2 (k.1, none) (fun cs => (yNx χ k.1, some (yTb (bh, cs)))))) → ∀ (f : Nat) (ρk : yR) (cs : List α) (q cap : Nat) (as : List Nat) (ks : va_W), (χ.1 0) - ρk.1 < f → yKi (fun ρ => yWd χ ρ 21) stp f ρk cs = (yKi (fun ρ => yWd χ ρ 21) stp ((χ.1 0) - ρ3.1 + 1) ρ3 []) → zCh tr cs as ks → zKc ks as → (∀ x ∈ cs, wf x) → as.length ≤ cap → 1 ≤ cap → cap ≤ 64 → as.length ≤ ρk.2.2.2.2.1 → yOKr χ ρk → ρ3.1 ≤ ρk.1 → ρ.2.2.2.2.1 ≤ ρk.2.2.2.2.1 → ρk.2.2.2.2.1 ≤ 30 → ∀ (H : Heap) (locs : List Loc) (cells slots : Nat), cells ≤ 2 + 3 * (ρk.2.2.2.2.1 - ρ.2.2.2.2.1) → slots ≤ 9 + 80 * (ρk.2.2.2.2.1 - ρ.2.2.2.2.1) → va_P G.1 zcl (zRT G χ ρk ++ (zBk G b q as.length bh ++ (zAr G q cap as ++ ks))) H → va_D A (zRT G χ ρk ++ (zBk G b q as.length bh ++ (zAr G q cap as ++ ks))) → va_S A s.heap H locs → ∀ ls : Array Slot, lv_has ls 5 [(4, .ref b), (0, .ref (χ.1 10)), (1, .ref (χ.1 22)), (2, .int (zb w)), (3, .int (nI wi))] → W p l e (zR (Ds + 12) (2 + 3 * ((yBt (yBl χ stp w ρ)).1.2.2.2.2.1 - ρ.2.2.2.2.1)) (9 + 80 * ((yBt (yBl χ stp w ρ)).1.2.2.2.2.1 - ρ.2.2.2.2.1))) s m ([.ref (χ.1 10), .ref (χ.1 22), .int (zb w), .int (nI wi)] : List Value).toArray below meth c H locs cells slots (vx_MQ below (zQe G (fun u : Nat × va_W => ∃ t, (yBt (yBl χ stp w ρ)).2 = some t ∧ zTS G tr t u.1 u.2 ∧ yWfS (χ.1 3) wf t ∧ yAft χ ρ (yBt (yBl χ stp w ρ)).1) (fun u => some (.ref u.1)) (fun u => zRT G χ (yBt (yBl χ stp w ρ)).1 ++ u.2) A) (zXe G (fun _ : Nat × va_W => (yBt (yBl χ stp w ρ)).2 = none) RX2 (χ.1 14) (fun _ => zRT G χ (yBt (yBl χ stp w ρ)).1) A) ([.ref (χ.1 10), .ref (χ.1 22), .int (zb w), .int (nI wi)] : List Value).toArray s (2 + 3 * ((yBt (yBl χ stp w ρ)).1.2.2.2.2.1 - ρ.2.2.2.2.1)) (9 + 80 * ((yBt (yBl χ stp w ρ)).1.2.2.2.2.1 - ρ.2.2.2.2.1)) A) (F0 m 36 ls []) := by
    intro ρ3 bh b hbt hρ3 h3a h3s hres f
    induction f with
    | zero => intro ρk cs q cap as ks hf; exact absurd hf (Nat.not_lt_zero _)
    | succ f ih =>
      intro ρk cs q cap as ks hf hK0 hch hkc hwf hcap hc1 hc64 hal hρk h3k hsk h30k H locs cells slots hce hsl hP hD hS ls hl
      obtain ⟨K0, hKe⟩ : ∃ K0, (yKi (fun ρ => yWd χ ρ 21) stp ((χ.1 0) - ρ3.1 + 1) ρ3 []) = K0 := ⟨_, rfl⟩
      rw [hKe] at hK0 ih
      have hres := hres
      rw [hKe] at hres
      have hfin : (yBt (yBl χ stp w ρ)).1.2.2.2.2.1 = K0.1.2.2.2.2.1 := by rw [hres]; unfold zlet zoc; generalize K0 = K1; obtain ⟨k1, k2⟩ := K1; cases k2 <;> rfl
      have hmk := yKi_mono (isE := fun ρ => yWd χ ρ 21) hmono (f + 1) ρk cs
      rw [hK0] at hmk
      refine lv_aload_n hx hb dX8_block_36 rfl (lv_at hl 1 rfl) ?_
      refine va_ldcS hx hb hown (hK.2.2 21 ("WindowHill$Reader", 124, "end") rfl) dX8_block_37 ?_
      refine zr_obV (w0 := (rW_ G (χ.1 10) (nI (χ.1 0)) (nI ρk.1) (nI ρk.2.1) ρk.2.2.1 ρk.2.2.2.1 (nI ρk.2.2.2.2.1) (χ.2.1 0) (χ.1 11) (χ.1 12) (χ.1 13) (χ.2.1 1) (χ.2.1 2) (χ.2.1 3) (χ.1 14) (χ.1 15) (χ.2.1 4) (χ.2.2.1 0) (χ.2.2.1 1) (χ.1 16) (χ.1 17) (χ.2.1 5) (χ.1 18) (χ.2.1 6) (χ.2.1 7) (χ.1 19) (χ.2.1 8) (χ.2.1 9) (χ.2.1 10) (χ.1 20) (χ.1 21) χ.2.2.2.2.1 (χ.2.2.2.2.2.2.1 0) (χ.2.2.2.1 0) (χ.2.2.2.1 1) (χ.2.2.2.1 2) (χ.2.2.2.1 3) (χ.2.2.2.1 4) (χ.2.2.2.1 5) ρk.2.2.2.2.2.1 ρk.2.2.2.2.2.2)) ⟨hx, hb, hml, hown, hts⟩ (mt_rf_isWord l G (χ.1 10) (χ.1 0) ρk.1 ρk.2.1 ρk.2.2.1 ρk.2.2.2.1 (nI ρk.2.2.2.2.1) (χ.2.1 0) (χ.1 11) (χ.1 12) (χ.1 13) (χ.2.1 1) (χ.2.1 2) (χ.2.1 3) (χ.1 14) (χ.1 15) (χ.2.1 4) (χ.2.2.1 0) (χ.2.2.1 1) (χ.1 16) (χ.1 17) (χ.2.1 5) (χ.1 18) (χ.2.1 6) (χ.2.1 7) (χ.1 19) (χ.2.1 8) (χ.2.1 9) (χ.2.1 10) (χ.1 20) (χ.1 21) χ.2.2.2.2.1 (χ.2.2.2.2.2.2.1 0) (χ.2.2.2.1 0) (χ.2.2.2.1 1) (χ.2.2.2.1 2) (χ.2.2.2.1 3) (χ.2.2.2.1 4) (χ.2.2.2.1 5) ρk.2.2.2.2.2.1 ρk.2.2.2.2.2.2 21 hχ.1 hρk.1 hρk.2.1 hρk.2.2 (by decide)) (cwV 1 hts (lw_V q685 q687 qs11 q151 q688) rfl rfl rfl hd_X8_isWord ⟨by show 5 + 1 ≤ Ds + 12; omega, by show 8 + (3 + 11) + 64 * 5 ≤ 64 * (Ds + 12); omega⟩) (zP_sub hP [0, 1, 2, 3] rfl) hK (zE_o hE hS) 0 8 rfl rfl rfl hl.1 rfl (Nat.le_of_ble_eq_true rfl) dX8_block_39 ⟨by show cells + 0 ≤ 2 + 3 * ((yBt (yBl χ stp w ρ)).1.2.2.2.2.1 - ρ.2.2.2.2.1); rw [hfin]; omega, by show slots + 0 ≤ 9 + 80 * ((yBt (yBl χ stp w ρ)).1.2.2.2.2.1 - ρ.2.2.2.2.1); rw [hfin]; omega⟩ ?_
      refine zr_neB (yWd χ ρk 21) (tgt := 58) hx hb dX8_block_42 (by decide) (fun hwe => ?_) (fun hwe => ?_)
      · have hk2 : K0 = (ρk, some cs) := by rw [← hK0]; unfold yKi; rw [if_pos hwe]
        have hsk0 : ¬ ρk.2.2.1 = 0 := isWordX_s hwe
        refine lv_aload_n hx hb dX8_block_58 rfl (lv_at hl 1 rfl) ?_
        refine zr_muPV (F := rf_next (χ.1 0) ρk.2.1 ρk.2.2.2.1 (χ.2.2.2.2.2.2.1 0)) (ff := fun t => (t.1 ≤ t.2.1 ∧ t.2.1 ≤ (χ.1 0) ∧ ρk.2.1 ≤ t.1) ∧ (t.2.2.1 = 0 ∨ t.1 < t.2.1) ∧ (t.2.2.1 = 0 ∨ ρk.2.1 < t.2.1)) (rr := fun _ => none) (wr := ((tW G (χ.1 22) (χ.1 23) (χ.1 24) (χ.1 25) (χ.1 26) (χ.1 27) (χ.1 28) (χ.1 29) (nI (χ.1 1)) (nI (χ.1 2)) (χ.2.1 11) (χ.2.1 12) (χ.2.1 13) (nI (χ.1 3)) (nI (χ.1 4)) χ.2.2.2.2.2.1 (χ.2.2.2.2.2.2.1 1) (χ.2.2.2.2.2.2.1 2) (χ.2.2.2.2.2.2.1 3) (χ.2.2.2.2.2.2.2 0)) ++ (tX_ G (χ.1 27) (χ.1 28) (χ.1 29) (χ.2.2.2.2.2.2.2 1) (χ.2.2.2.2.2.2.1 4) (χ.2.2.2.2.2.2.1 5))) ++ (zBk G b q as.length bh ++ (zAr G q cap as ++ ks))) (w0 := (rW_ G (χ.1 10) (nI (χ.1 0)) (nI ρk.1) (nI ρk.2.1) ρk.2.2.1 ρk.2.2.2.1 (nI ρk.2.2.2.2.1) (χ.2.1 0) (χ.1 11) (χ.1 12) (χ.1 13) (χ.2.1 1) (χ.2.1 2) (χ.2.1 3) (χ.1 14) (χ.1 15) (χ.2.1 4) (χ.2.2.1 0) (χ.2.2.1 1) (χ.1 16) (χ.1 17) (χ.2.1 5) (χ.1 18) (χ.2.1 6) (χ.2.1 7) (χ.1 19) (χ.2.1 8) (χ.2.1 9) (χ.2.1 10) (χ.1 20) (χ.1 21) χ.2.2.2.2.1 (χ.2.2.2.2.2.2.1 0) (χ.2.2.2.1 0) (χ.2.2.2.1 1) (χ.2.2.2.1 2) (χ.2.2.2.1 3) (χ.2.2.2.1 4) (χ.2.2.2.1 5) ρk.2.2.2.2.2.1 ρk.2.2.2.2.2.2)) (w1 := fun t => (rW_ G (χ.1 10) (nI (χ.1 0)) (nI t.1) (nI t.2.1) t.2.2.1 t.2.2.2 (nI ρk.2.2.2.2.1) (χ.2.1 0) (χ.1 11) (χ.1 12) (χ.1 13) (χ.2.1 1) (χ.2.1 2) (χ.2.1 3) (χ.1 14) (χ.1 15) (χ.2.1 4) (χ.2.2.1 0) (χ.2.2.1 1) (χ.1 16) (χ.1 17) (χ.2.1 5) (χ.1 18) (χ.2.1 6) (χ.2.1 7) (χ.1 19) (χ.2.1 8) (χ.2.1 9) (χ.2.1 10) (χ.1 20) (χ.1 21) χ.2.2.2.2.1 (χ.2.2.2.2.2.2.1 0) (χ.2.2.2.1 0) (χ.2.2.2.1 1) (χ.2.2.2.1 2) (χ.2.2.2.1 3) (χ.2.2.2.1 4) (χ.2.2.2.1 5) ρk.2.2.2.2.2.1 ρk.2.2.2.2.2.2)) (wn := fun t => zRT G χ (t.1, t.2.1, t.2.2.1, t.2.2.2, ρk.2.2.2.2.1, ρk.2.2.2.2.2.1, ρk.2.2.2.2.2.2) ++ (zBk G b q as.length bh ++ (zAr G q cap as ++ ks))) (zpt (perm_pos 12 [4, 5, 6, 7, 8, 9, 10, 11, 0, 1, 2, 3] rfl (by decide) rfl)) (fun t => zpt' (perm_pos 12 [8, 9, 10, 11, 0, 1, 2, 3, 4, 5, 6, 7] rfl (by decide) rfl)) ⟨hx, hb, hml, hown, hts⟩ (mt_rf_next l G (χ.1 10) (χ.1 0) ρk.1 ρk.2.1 ρk.2.2.1 ρk.2.2.2.1 (nI ρk.2.2.2.2.1) (χ.2.1 0) (χ.1 11) (χ.1 12) (χ.1 13) (χ.2.1 1) (χ.2.1 2) (χ.2.1 3) (χ.1 14) (χ.1 15) (χ.2.1 4) (χ.2.2.1 0) (χ.2.2.1 1) (χ.1 16) (χ.1 17) (χ.2.1 5) (χ.1 18) (χ.2.1 6) (χ.2.1 7) (χ.1 19) (χ.2.1 8) (χ.2.1 9) (χ.2.1 10) (χ.1 20) (χ.1 21) χ.2.2.2.2.1 (χ.2.2.2.2.2.2.1 0) (χ.2.2.2.1 0) (χ.2.2.2.1 1) (χ.2.2.2.1 2) (χ.2.2.2.1 3) (χ.2.2.2.1 4) (χ.2.2.2.1 5) ρk.2.2.2.2.2.1 ρk.2.2.2.2.2.2 hχ.1 hρk.1 hρk.2.1 hρk.2.2 H.size) (cwV 0 hts (lw_V q637 q639 qs7 q151 q640) rfl rfl rfl hd_X8_next ⟨by show 2 + 1 ≤ Ds + 12; omega, by show 8 + (1 + 11) + 64 * 2 ≤ 64 * (Ds + 12); omega⟩) hP hD hS hA hK hE 0 8 rfl rfl rfl hl.1 rfl (Nat.le_of_ble_eq_true rfl) dX8_block_59 ⟨by show cells + 0 ≤ 2 + 3 * ((yBt (yBl χ stp w ρ)).1.2.2.2.2.1 - ρ.2.2.2.2.1); rw [hfin]; omega, by show slots + 0 ≤ 9 + 80 * ((yBt (yBl χ stp w ρ)).1.2.2.2.2.1 - ρ.2.2.2.2.1); rw [hfin]; omega⟩ (fun t ht hft H locs hP hD hS _ => ?_)
        refine lv_aload hx hb dX8_block_62 (lv_at hl 0 rfl) ?_
        obtain ⟨hnx9, hso9, htk9⟩ := hft
        have e_ : (yBt (yBl χ stp w ρ)) = ((t.1, t.2.1, t.2.2.1, t.2.2.2, ρk.2.2.2.2.1, ρk.2.2.2.2.2.1, ρk.2.2.2.2.2.2), some (yTb (bh, cs))) := by rw [hres, hk2, zlet_eq rfl, zoc_s rfl]; unfold yNx; rw [zlet_eq ht]
        refine vx_ret ?_
        refine zr_ena (b, (zBk G b q as.length bh ++ (zAr G q cap as ++ ks))) hx hb hr hlocks ?_ ?_ hS dX8_block_64 rfl ⟨yTb (bh, cs), ?_⟩ ?_ ?_
        · rw [e_]; exact hP
        · rw [e_]; exact hD
        · rw [e_]; exact ⟨rfl, zTS_bk hcap hc64 hch b bh, yWfS_bk bh hbt hwf, ⟨hnx9.1, hnx9.2.1, hso9⟩, by show ρ.2.1 ≤ t.1; have := hρk.1; omega, hsk, h30k⟩
        · rw [e_]; show cells + 0 ≤ 2 + 3 * (ρk.2.2.2.2.1 - ρ.2.2.2.2.1); omega
        · rw [e_]; show slots + 0 ≤ 9 + 80 * (ρk.2.2.2.2.1 - ρ.2.2.2.2.1); omega
      · have hss := yKi_st (isE := fun ρ => yWd χ ρ 21) hmono (f := f) (cs := cs) hwe
        rw [hK0] at hss
        have hM := hstp ρk bh b q cap as ks hρk h30k hal hcap hc1 hc64 hkc H.size
        have hun : yKi (fun ρ => yWd χ ρ 21) stp (f + 1) ρk cs = zlet (stp ρk) (fun r => zoc r.2 (r.1, none) (fun t => yKi (fun ρ => yWd χ ρ 21) stp f r.1 (cs ++ [t]))) := by rw [yKi, if_neg hwe]
        have hms := hmono ρk
        obtain ⟨r, hr9⟩ : ∃ r, stp ρk = r := ⟨_, rfl⟩
        rw [hr9] at hss hM hun hms
        rw [hK0] at hun
        refine lv_aload_n hx hb dX8_block_45 rfl (lv_at hl 1 rfl) ?_
        refine lv_aload_n hx hb dX8_block_46 rfl (lv_at hl 2 rfl) ?_
        refine lv_aload hx hb dX8_block_47 (lv_at hl 0 rfl) ?_
        refine lv_iload_n hx hb dX8_block_49 rfl (lv_at hl 4 rfl) ?_
        refine lv_iconst (v := 1) hx hb dX8_block_50 (by decide) ?_
        refine zr_iaddN wi 1 hx hb dX8_block_51 ?_
        refine zr_muXEV (S := (Nat × Nat × Nat) × va_W) (wr := []) (wn := fun u => zRT G χ r.1 ++ (zBk G b u.1.1 (as.length + 1) bh ++ (zAr G u.1.1 u.1.2.1 (as ++ [u.1.2.2]) ++ (ks ++ u.2)))) (wnx := fun _ => zRT G χ r.1) (List.Perm.refl _) (fun u => List.Perm.refl _) (fun _ => List.Perm.refl _) ⟨hx, hb, hml, hown, hts⟩ hM (cwV 3 hts (lw_V q899 q901 qs29 q151 q902) rfl rfl rfl hd_X8_step ⟨by show Ds + 1 ≤ Ds + 12; omega, by show 8 + (7 + 11) + 64 * Ds ≤ 64 * (Ds + 12); omega⟩) hP hD hS hA hK hE 0 8 rfl rfl rfl hl.1 rfl (Nat.le_of_ble_eq_true rfl) dX8_block_52 ⟨by show cells + 3 * (r.1.2.2.2.2.1 - ρk.2.2.2.2.1) ≤ 2 + 3 * ((yBt (yBl χ stp w ρ)).1.2.2.2.2.1 - ρ.2.2.2.2.1); rw [hfin]; omega, by show slots + 80 * (r.1.2.2.2.2.1 - ρk.2.2.2.2.1) ≤ 9 + 80 * ((yBt (yBl χ stp w ρ)).1.2.2.2.2.1 - ρ.2.2.2.2.1); rw [hfin]; omega⟩ (fun u hfu H locs hP hD hS _ => ?_) (fun u hfu H locs hP hD hS _ => ?_)
        · obtain ⟨t, hrt, htr, hwft, haf, hpr, hl1, hl2, hl3⟩ := hfu
          obtain ⟨ci, fs, r5, hm5, hr5, hc5⟩ := hcls t _ _ htr
          rw [zlet_eq rfl, zoc_s hrt] at hun
          have hlen9 : (as ++ [u.1.2.2]).length = as.length + 1 := by rw [List.length_append]; rfl
          refine lv_goto (tgt := 36) hx hb dX8_block_55 (by decide) ?_
          refine ih r.1 (cs ++ [t]) u.1.1 u.1.2.1 (as ++ [u.1.2.2]) (ks ++ u.2) (by have := hρk.2.1; have := haf.1.1; have := haf.1.2.1; omega) hun.symm (zCh_app htr hch) (zKc_app hkc hm5 hr5 hc5) (fun x hx9 => ?_) (by omega) (by omega) hl2 (by omega) haf.1 (by omega) (by omega) haf.2.2.2 H locs _ _ (by show cells + 3 * (r.1.2.2.2.2.1 - ρk.2.2.2.2.1) ≤ _; omega) (by show slots + 80 * (r.1.2.2.2.2.1 - ρk.2.2.2.2.1) ≤ _; omega) (by rw [hlen9]; exact hP) (by rw [hlen9]; exact hD) hS ls hl
          rcases List.mem_append.mp hx9 with h9 | h9
          · exact hwf x h9
          · rw [List.mem_singleton.mp h9]; exact hwft
        · have hfu : r.2 = none := hfu
          rw [zlet_eq rfl, zoc_n hfu] at hun
          have e_ : (yBt (yBl χ stp w ρ)) = (r.1, none) := by rw [hres, hun, zlet_eq rfl, zoc_n rfl]
          exact hX _ e_ [] _ _ _ _ _ _ _ (by show cells + 3 * (r.1.2.2.2.2.1 - ρk.2.2.2.2.1) ≤ _; omega) (by show slots + 80 * (r.1.2.2.2.2.1 - ρk.2.2.2.2.1) ≤ _; omega) (by rw [List.append_nil]; exact hP) (by rw [List.append_nil]; exact hD) hS
  have hJ30 : ∀ (ρ2 : yR) (bh : yHb) (b q : Nat), (∀ n, bh = .inl n → n ≤ 99) → yHd χ w (yNx χ ρ) = (ρ2, some bh) → yOKr χ ρ2 → ρ.2.1 ≤ ρ2.1 → ρ2.2.2.2.2.1 = ρ.2.2.2.2.1 → ∀ (H : Heap) (locs : List Loc) (cells slots : Nat), cells ≤ 2 → slots ≤ 9 → va_P G.1 zcl (zRT G χ ρ2 ++ (zBk G b q 0 bh ++ (zAr G q 4 [] ++ []))) H → va_D A (zRT G χ ρ2 ++ (zBk G b q 0 bh ++ (zAr G q 4 [] ++ []))) → va_S A s.heap H locs → ∀ ls : Array Slot, lv_has ls 5 [(0, .ref (χ.1 10)), (1, .ref (χ.1 22)), (2, .int (zb w)), (3, .int (nI wi))] → W p l e (zR (Ds + 12) (2 + 3 * ((yBt (yBl χ stp w ρ)).1.2.2.2.2.1 - ρ.2.2.2.2.1)) (9 + 80 * ((yBt (yBl χ stp w ρ)).1.2.2.2.2.1 - ρ.2.2.2.2.1))) s m ([.ref (χ.1 10), .ref (χ.1 22), .int (zb w), .int (nI wi)] : List Value).toArray below meth c H locs cells slots (vx_MQ below (zQe G (fun u : Nat × va_W => ∃ t, (yBt (yBl χ stp w ρ)).2 = some t ∧ zTS G tr t u.1 u.2 ∧ yWfS (χ.1 3) wf t ∧ yAft χ ρ (yBt (yBl χ stp w ρ)).1) (fun u => some (.ref u.1)) (fun u => zRT G χ (yBt (yBl χ stp w ρ)).1 ++ u.2) A) (zXe G (fun _ : Nat × va_W => (yBt (yBl χ stp w ρ)).2 = none) RX2 (χ.1 14) (fun _ => zRT G χ (yBt (yBl χ stp w ρ)).1) A) ([.ref (χ.1 10), .ref (χ.1 22), .int (zb w), .int (nI wi)] : List Value).toArray s (2 + 3 * ((yBt (yBl χ stp w ρ)).1.2.2.2.2.1 - ρ.2.2.2.2.1)) (9 + 80 * ((yBt (yBl χ stp w ρ)).1.2.2.2.2.1 - ρ.2.2.2.2.1)) A) (F0 m 30 ls [.ref b]) := by
    intro ρ2 bh b q hbt hhd hρ2 h2a h2s H locs cells slots hce hsl hP hD hS ls hl
    have hbl : yBl χ stp w ρ = zlet (yCl χ ρ2) (fun c => if c.1 = true then zlet (yKi (fun ρ => yWd χ ρ 21) stp ((χ.1 0) - c.2.1 + 1) c.2 []) (fun k => zoc k.2 (k.1, none) (fun cs => (yNx χ k.1, some (bh, cs)))) else (c.2, none)) := by unfold yBl; rw [zlet_eq hhd, zoc_s rfl]
    refine lv_astore (lv' := [(4, .ref b), (0, .ref (χ.1 10)), (1, .ref (χ.1 22)), (2, .int (zb w)), (3, .int (nI wi))]) hx hb dX8_block_30 hl (by decide) rfl (fun ls hl => ?_)
    refine lv_aload_n hx hb dX8_block_32 rfl (lv_at hl 1 rfl) ?_
    refine zr_muXPV (F := rf_close (χ.1 0) ρ2.1 ρ2.2.1 ρ2.2.2.1 ρ2.2.2.2.1 (χ.2.2.2.2.2.2.1 0) ρ2.2.2.2.2.2.1 ρ2.2.2.2.2.2.2) (fl := fun t => t.1) (ff := fun t => (t.2.1 ≤ t.2.2.1 ∧ t.2.2.1 ≤ (χ.1 0)) ∧ (t.2.2.2.1 = 0 ∨ t.2.1 < t.2.2.1) ∧ (t.1 = false ∨ (ρ2.1 < ρ2.2.1 ∧ ρ2.2.1 ≤ t.2.1))) (rr := fun t => none) (wr := ((tW G (χ.1 22) (χ.1 23) (χ.1 24) (χ.1 25) (χ.1 26) (χ.1 27) (χ.1 28) (χ.1 29) (nI (χ.1 1)) (nI (χ.1 2)) (χ.2.1 11) (χ.2.1 12) (χ.2.1 13) (nI (χ.1 3)) (nI (χ.1 4)) χ.2.2.2.2.2.1 (χ.2.2.2.2.2.2.1 1) (χ.2.2.2.2.2.2.1 2) (χ.2.2.2.2.2.2.1 3) (χ.2.2.2.2.2.2.2 0)) ++ (tX_ G (χ.1 27) (χ.1 28) (χ.1 29) (χ.2.2.2.2.2.2.2 1) (χ.2.2.2.2.2.2.1 4) (χ.2.2.2.2.2.2.1 5))) ++ (zBk G b q 0 bh ++ (zAr G q 4 [] ++ []))) (w0 := (rW_ G (χ.1 10) (nI (χ.1 0)) (nI ρ2.1) (nI ρ2.2.1) ρ2.2.2.1 ρ2.2.2.2.1 (nI ρ2.2.2.2.2.1) (χ.2.1 0) (χ.1 11) (χ.1 12) (χ.1 13) (χ.2.1 1) (χ.2.1 2) (χ.2.1 3) (χ.1 14) (χ.1 15) (χ.2.1 4) (χ.2.2.1 0) (χ.2.2.1 1) (χ.1 16) (χ.1 17) (χ.2.1 5) (χ.1 18) (χ.2.1 6) (χ.2.1 7) (χ.1 19) (χ.2.1 8) (χ.2.1 9) (χ.2.1 10) (χ.1 20) (χ.1 21) χ.2.2.2.2.1 (χ.2.2.2.2.2.2.1 0) (χ.2.2.2.1 0) (χ.2.2.2.1 1) (χ.2.2.2.1 2) (χ.2.2.2.1 3) (χ.2.2.2.1 4) (χ.2.2.2.1 5) ρ2.2.2.2.2.2.1 ρ2.2.2.2.2.2.2)) (w1 := fun t => (rW_ G (χ.1 10) (nI (χ.1 0)) (nI t.2.1) (nI t.2.2.1) t.2.2.2.1 t.2.2.2.2.1 (nI ρ2.2.2.2.2.1) (χ.2.1 0) (χ.1 11) (χ.1 12) (χ.1 13) (χ.2.1 1) (χ.2.1 2) (χ.2.1 3) (χ.1 14) (χ.1 15) (χ.2.1 4) (χ.2.2.1 0) (χ.2.2.1 1) (χ.1 16) (χ.1 17) (χ.2.1 5) (χ.1 18) (χ.2.1 6) (χ.2.1 7) (χ.1 19) (χ.2.1 8) (χ.2.1 9) (χ.2.1 10) (χ.1 20) (χ.1 21) χ.2.2.2.2.1 (χ.2.2.2.2.2.2.1 0) (χ.2.2.2.1 0) (χ.2.2.2.1 1) (χ.2.2.2.1 2) (χ.2.2.2.1 3) (χ.2.2.2.1 4) (χ.2.2.2.1 5) t.2.2.2.2.2.1 t.2.2.2.2.2.2)) (wn := fun t => zRT G χ (t.2.1, t.2.2.1, t.2.2.2.1, t.2.2.2.2.1, ρ2.2.2.2.2.1, t.2.2.2.2.2.1, t.2.2.2.2.2.2) ++ (zBk G b q 0 bh ++ (zAr G q 4 [] ++ []))) (zpt (perm_pos 12 [4, 5, 6, 7, 8, 9, 10, 11, 0, 1, 2, 3] rfl (by decide) rfl)) (fun t => zpt' (perm_pos 12 [8, 9, 10, 11, 0, 1, 2, 3, 4, 5, 6, 7] rfl (by decide) rfl)) ⟨hx, hb, hml, hown, hts⟩ (mt_rf_close l G (χ.1 10) (χ.1 0) ρ2.1 ρ2.2.1 ρ2.2.2.1 ρ2.2.2.2.1 (nI ρ2.2.2.2.2.1) (χ.2.1 0) (χ.1 11) (χ.1 12) (χ.1 13) (χ.2.1 1) (χ.2.1 2) (χ.2.1 3) (χ.1 14) (χ.1 15) (χ.2.1 4) (χ.2.2.1 0) (χ.2.2.1 1) (χ.1 16) (χ.1 17) (χ.2.1 5) (χ.1 18) (χ.2.1 6) (χ.2.1 7) (χ.1 19) (χ.2.1 8) (χ.2.1 9) (χ.2.1 10) (χ.1 20) (χ.1 21) χ.2.2.2.2.1 (χ.2.2.2.2.2.2.1 0) (χ.2.2.2.1 0) (χ.2.2.2.1 1) (χ.2.2.2.1 2) (χ.2.2.2.1 3) (χ.2.2.2.1 4) (χ.2.2.2.1 5) ρ2.2.2.2.2.2.1 ρ2.2.2.2.2.2.2 hχ.1 hρ2.1 hρ2.2.1 hρ2.2.2 H.size) (cwV 0 hts (lw_V q750 q752 qs14 q151 q753) rfl rfl rfl hd_X8_close ⟨by show 3 + 1 ≤ Ds + 12; omega, by show 8 + (1 + 11) + 64 * 3 ≤ 64 * (Ds + 12); omega⟩) hP hD hS hA hK hE 0 8 rfl rfl rfl hl.1 rfl (Nat.le_of_ble_eq_true rfl) dX8_block_33 ⟨by show cells + 0 ≤ 2 + 3 * ((yBt (yBl χ stp w ρ)).1.2.2.2.2.1 - ρ.2.2.2.2.1); omega, by show slots + 0 ≤ 9 + 80 * ((yBt (yBl χ stp w ρ)).1.2.2.2.2.1 - ρ.2.2.2.2.1); omega⟩ (fun t ht hct hft H locs hP hD hS _ => ?_) (fun t ht hct hft H locs hP hD hS _ => ?_)
    · obtain ⟨hnx9, hso9, hpr9⟩ := hft
      have hpr8 := hpr9.resolve_left (by rw [hct]; decide)
      have hres : (yBt (yBl χ stp w ρ)) = zlet (yKi (fun ρ => yWd χ ρ 21) stp ((χ.1 0) - (t.2.1, t.2.2.1, t.2.2.2.1, t.2.2.2.2.1, ρ2.2.2.2.2.1, t.2.2.2.2.2.1, t.2.2.2.2.2.2).1 + 1) (t.2.1, t.2.2.1, t.2.2.2.1, t.2.2.2.2.1, ρ2.2.2.2.2.1, t.2.2.2.2.2.1, t.2.2.2.2.2.2) []) (fun k => zoc k.2 (k.1, none) (fun cs => (yNx χ k.1, some (yTb (bh, cs))))) := by rw [hbl, yCl, zlet_eq (zlet_eq ht)]; rw [if_pos hct]; unfold yBt zlet zoc; generalize yKi (fun ρ => yWd χ ρ 21) stp ((χ.1 0) - (t.2.1, t.2.2.1, t.2.2.2.1, t.2.2.2.2.1, ρ2.2.2.2.2.1, t.2.2.2.2.2.1, t.2.2.2.2.2.2).1 + 1) (t.2.1, t.2.2.1, t.2.2.2.1, t.2.2.2.2.1, ρ2.2.2.2.2.1, t.2.2.2.2.2.1, t.2.2.2.2.2.2) [] = K1; obtain ⟨k1, k2⟩ := K1; cases k2 <;> rfl
      exact hJ36 (t.2.1, t.2.2.1, t.2.2.2.1, t.2.2.2.2.1, ρ2.2.2.2.2.1, t.2.2.2.2.2.1, t.2.2.2.2.2.2) bh b hbt ⟨hnx9.1, hnx9.2, hso9⟩ (by show ρ.2.1 ≤ t.2.1; omega) h2s hres ((χ.1 0) - (t.2.1, t.2.2.1, t.2.2.2.1, t.2.2.2.2.1, ρ2.2.2.2.2.1, t.2.2.2.2.2.1, t.2.2.2.2.2.2).1 + 1) (t.2.1, t.2.2.1, t.2.2.2.1, t.2.2.2.2.1, ρ2.2.2.2.2.1, t.2.2.2.2.2.1, t.2.2.2.2.2.2) [] q 4 [] [] (Nat.lt_succ_self _) rfl ⟨rfl, rfl⟩ (fun i x hx9 => by simp at hx9) (fun x hx9 => by simp at hx9) (by decide) (by decide) (by decide) (Nat.zero_le _) ⟨hnx9.1, hnx9.2, hso9⟩ (Nat.le_refl _) (Nat.le_of_eq h2s.symm) (by show ρ2.2.2.2.2.1 ≤ 30; omega) H locs _ _ (by show cells + 0 ≤ _; omega) (by show slots + 0 ≤ _; omega) hP hD hS ls hl
    · have e_ : (yBt (yBl χ stp w ρ)) = ((t.2.1, t.2.2.1, t.2.2.2.1, t.2.2.2.2.1, ρ2.2.2.2.2.1, t.2.2.2.2.2.1, t.2.2.2.2.2.2), none) := by rw [hbl, yCl, zlet_eq (zlet_eq ht)]; rw [if_neg (xfl hct)]; rfl
      exact hX _ e_ _ _ _ _ _ _ _ _ (by show cells + 0 ≤ _; omega) (by show slots + 0 ≤ _; omega) hP hD hS
  have hP : va_P G.1 zcl (zRT G χ ρ ++ []) H := by rw [List.append_nil]; exact hP
  have hD : va_D A (zRT G χ ρ ++ []) := by rw [List.append_nil]; exact hD
  refine lv_aload_n hx hb dX8_block_0 rfl (lv_at hl 0 rfl) ?_
  refine zr_muPV (F := rf_next (χ.1 0) ρ.2.1 ρ.2.2.2.1 (χ.2.2.2.2.2.2.1 0)) (ff := fun t => (t.1 ≤ t.2.1 ∧ t.2.1 ≤ (χ.1 0) ∧ ρ.2.1 ≤ t.1) ∧ (t.2.2.1 = 0 ∨ t.1 < t.2.1) ∧ (t.2.2.1 = 0 ∨ ρ.2.1 < t.2.1)) (rr := fun _ => none) (wr := ((tW G (χ.1 22) (χ.1 23) (χ.1 24) (χ.1 25) (χ.1 26) (χ.1 27) (χ.1 28) (χ.1 29) (nI (χ.1 1)) (nI (χ.1 2)) (χ.2.1 11) (χ.2.1 12) (χ.2.1 13) (nI (χ.1 3)) (nI (χ.1 4)) χ.2.2.2.2.2.1 (χ.2.2.2.2.2.2.1 1) (χ.2.2.2.2.2.2.1 2) (χ.2.2.2.2.2.2.1 3) (χ.2.2.2.2.2.2.2 0)) ++ (tX_ G (χ.1 27) (χ.1 28) (χ.1 29) (χ.2.2.2.2.2.2.2 1) (χ.2.2.2.2.2.2.1 4) (χ.2.2.2.2.2.2.1 5))) ++ []) (w0 := (rW_ G (χ.1 10) (nI (χ.1 0)) (nI ρ.1) (nI ρ.2.1) ρ.2.2.1 ρ.2.2.2.1 (nI ρ.2.2.2.2.1) (χ.2.1 0) (χ.1 11) (χ.1 12) (χ.1 13) (χ.2.1 1) (χ.2.1 2) (χ.2.1 3) (χ.1 14) (χ.1 15) (χ.2.1 4) (χ.2.2.1 0) (χ.2.2.1 1) (χ.1 16) (χ.1 17) (χ.2.1 5) (χ.1 18) (χ.2.1 6) (χ.2.1 7) (χ.1 19) (χ.2.1 8) (χ.2.1 9) (χ.2.1 10) (χ.1 20) (χ.1 21) χ.2.2.2.2.1 (χ.2.2.2.2.2.2.1 0) (χ.2.2.2.1 0) (χ.2.2.2.1 1) (χ.2.2.2.1 2) (χ.2.2.2.1 3) (χ.2.2.2.1 4) (χ.2.2.2.1 5) ρ.2.2.2.2.2.1 ρ.2.2.2.2.2.2)) (w1 := fun t => (rW_ G (χ.1 10) (nI (χ.1 0)) (nI t.1) (nI t.2.1) t.2.2.1 t.2.2.2 (nI ρ.2.2.2.2.1) (χ.2.1 0) (χ.1 11) (χ.1 12) (χ.1 13) (χ.2.1 1) (χ.2.1 2) (χ.2.1 3) (χ.1 14) (χ.1 15) (χ.2.1 4) (χ.2.2.1 0) (χ.2.2.1 1) (χ.1 16) (χ.1 17) (χ.2.1 5) (χ.1 18) (χ.2.1 6) (χ.2.1 7) (χ.1 19) (χ.2.1 8) (χ.2.1 9) (χ.2.1 10) (χ.1 20) (χ.1 21) χ.2.2.2.2.1 (χ.2.2.2.2.2.2.1 0) (χ.2.2.2.1 0) (χ.2.2.2.1 1) (χ.2.2.2.1 2) (χ.2.2.2.1 3) (χ.2.2.2.1 4) (χ.2.2.2.1 5) ρ.2.2.2.2.2.1 ρ.2.2.2.2.2.2)) (wn := fun t => zRT G χ (t.1, t.2.1, t.2.2.1, t.2.2.2, ρ.2.2.2.2.1, ρ.2.2.2.2.2.1, ρ.2.2.2.2.2.2) ++ []) (zpt (perm_pos 12 [4, 5, 6, 7, 8, 9, 10, 11, 0, 1, 2, 3] rfl (by decide) rfl)) (fun t => zpt' (perm_pos 12 [8, 9, 10, 11, 0, 1, 2, 3, 4, 5, 6, 7] rfl (by decide) rfl)) ⟨hx, hb, hml, hown, hts⟩ (mt_rf_next l G (χ.1 10) (χ.1 0) ρ.1 ρ.2.1 ρ.2.2.1 ρ.2.2.2.1 (nI ρ.2.2.2.2.1) (χ.2.1 0) (χ.1 11) (χ.1 12) (χ.1 13) (χ.2.1 1) (χ.2.1 2) (χ.2.1 3) (χ.1 14) (χ.1 15) (χ.2.1 4) (χ.2.2.1 0) (χ.2.2.1 1) (χ.1 16) (χ.1 17) (χ.2.1 5) (χ.1 18) (χ.2.1 6) (χ.2.1 7) (χ.1 19) (χ.2.1 8) (χ.2.1 9) (χ.2.1 10) (χ.1 20) (χ.1 21) χ.2.2.2.2.1 (χ.2.2.2.2.2.2.1 0) (χ.2.2.2.1 0) (χ.2.2.2.1 1) (χ.2.2.2.1 2) (χ.2.2.2.1 3) (χ.2.2.2.1 4) (χ.2.2.2.1 5) ρ.2.2.2.2.2.1 ρ.2.2.2.2.2.2 hχ.1 hρ.1 hρ.2.1 hρ.2.2 H.size) (cwV 0 hts (lw_V q637 q639 qs7 q151 q640) rfl rfl rfl hd_X8_next ⟨by show 2 + 1 ≤ Ds + 12; omega, by show 8 + (1 + 11) + 64 * 2 ≤ 64 * (Ds + 12); omega⟩) hP hD hS hA hK hE 0 8 rfl rfl rfl hl.1 rfl (Nat.le_of_ble_eq_true rfl) dX8_block_1 ⟨by show 0 + 0 ≤ 2 + 3 * ((yBt (yBl χ stp w ρ)).1.2.2.2.2.1 - ρ.2.2.2.2.1); omega, by show 0 + 0 ≤ 9 + 80 * ((yBt (yBl χ stp w ρ)).1.2.2.2.2.1 - ρ.2.2.2.2.1); omega⟩ (fun t ht hft H locs hP hD hS _ => ?_)
  obtain ⟨hnx9, hso9, htk9⟩ := hft
  obtain ⟨ρ1, hρ1e⟩ : ∃ ρ1 : yR, (t.1, t.2.1, t.2.2.1, t.2.2.2, ρ.2.2.2.2.1, ρ.2.2.2.2.2.1, ρ.2.2.2.2.2.2) = ρ1 := ⟨_, rfl⟩
  have hn1 : yNx χ ρ = ρ1 := by unfold yNx; rw [zlet_eq ht]; exact hρ1e
  have hρ1 : yOKr χ ρ1 := by rw [← hρ1e]; exact ⟨hnx9.1, hnx9.2.1, hso9⟩
  have h1a : ρ.2.1 ≤ ρ1.1 := by rw [← hρ1e]; exact hnx9.2.2
  have h1s : ρ1.2.2.2.2.1 = ρ.2.2.2.2.1 := by rw [← hρ1e]
  rw [hρ1e, List.append_nil] at hP hD
  refine lv_iload_n hx hb dX8_block_4 rfl (lv_at hl 2 rfl) ?_
  refine zr_eqB w (tgt := 16) hx hb dX8_block_5 (by decide) (fun hw => ?_) (fun hw => ?_)
  · refine va_new (ci := 9) (fs := [.null, .int 0, .int 0]) (C := RX11) (T := TX11) (N := 3) hx hb hts in_X11 tyX11 tyX11_ok hown (hts _ q933) (hts _ q868) (hts _ q159) hK.1 hP hD hS hA rfl (fun j hj => by rcases (show j = 0 ∨ j = 1 ∨ j = 2 by omega) with rfl | rfl | rfl <;> rfl) (by show 0 + 1 ≤ 2 + 3 * ((yBt (yBl χ stp w ρ)).1.2.2.2.2.1 - ρ.2.2.2.2.1); omega) (by show 0 + 3 ≤ 9 + 80 * ((yBt (yBl χ stp w ρ)).1.2.2.2.2.1 - ρ.2.2.2.2.1); omega) dX8_block_16 (fun qn H hP hD hS => ?_)
    refine lv_dup hx hb dX8_block_19 rfl ?_
    refine lv_aload_n hx hb dX8_block_20 rfl (lv_at hl 0 rfl) ?_
    refine lv_iconst (v := 1) hx hb dX8_block_21 (by decide) ?_
    refine lv_bipush (v := 99) hx hb dX8_block_22 (by decide) ?_
    refine zr_muXPV (F := rf_number (χ.1 0) ρ1.1 ρ1.2.1 ρ1.2.2.1 ρ1.2.2.2.1 (χ.2.2.2.2.2.2.1 0) ρ1.2.2.2.2.2.1 ρ1.2.2.2.2.2.2 1 99) (fl := fun t => t.1) (ff := fun t => (t.2.2.1 ≤ t.2.2.2.1 ∧ t.2.2.2.1 ≤ (χ.1 0)) ∧ (t.2.2.2.2.1 = 0 ∨ t.2.2.1 < t.2.2.2.1) ∧ (t.1 = false ∨ (ρ1.1 < ρ1.2.1 ∧ ρ1.2.1 ≤ t.2.2.1)) ∧ (t.1 = false ∨ (¬ t.2.1 < 1 ∧ t.2.1 ≤ 99))) (rr := fun t => some (.int t.2.1)) (wr := ((tW G (χ.1 22) (χ.1 23) (χ.1 24) (χ.1 25) (χ.1 26) (χ.1 27) (χ.1 28) (χ.1 29) (nI (χ.1 1)) (nI (χ.1 2)) (χ.2.1 11) (χ.2.1 12) (χ.2.1 13) (nI (χ.1 3)) (nI (χ.1 4)) χ.2.2.2.2.2.1 (χ.2.2.2.2.2.2.1 1) (χ.2.2.2.2.2.2.1 2) (χ.2.2.2.2.2.2.1 3) (χ.2.2.2.2.2.2.2 0)) ++ (tX_ G (χ.1 27) (χ.1 28) (χ.1 29) (χ.2.2.2.2.2.2.2 1) (χ.2.2.2.2.2.2.1 4) (χ.2.2.2.2.2.2.1 5))) ++ [(qn, .inr (9, [.null, .int 0, .int 0]))]) (w0 := (rW_ G (χ.1 10) (nI (χ.1 0)) (nI ρ1.1) (nI ρ1.2.1) ρ1.2.2.1 ρ1.2.2.2.1 (nI ρ1.2.2.2.2.1) (χ.2.1 0) (χ.1 11) (χ.1 12) (χ.1 13) (χ.2.1 1) (χ.2.1 2) (χ.2.1 3) (χ.1 14) (χ.1 15) (χ.2.1 4) (χ.2.2.1 0) (χ.2.2.1 1) (χ.1 16) (χ.1 17) (χ.2.1 5) (χ.1 18) (χ.2.1 6) (χ.2.1 7) (χ.1 19) (χ.2.1 8) (χ.2.1 9) (χ.2.1 10) (χ.1 20) (χ.1 21) χ.2.2.2.2.1 (χ.2.2.2.2.2.2.1 0) (χ.2.2.2.1 0) (χ.2.2.2.1 1) (χ.2.2.2.1 2) (χ.2.2.2.1 3) (χ.2.2.2.1 4) (χ.2.2.2.1 5) ρ1.2.2.2.2.2.1 ρ1.2.2.2.2.2.2)) (w1 := fun t => (rW_ G (χ.1 10) (nI (χ.1 0)) (nI t.2.2.1) (nI t.2.2.2.1) t.2.2.2.2.1 t.2.2.2.2.2.1 (nI ρ1.2.2.2.2.1) (χ.2.1 0) (χ.1 11) (χ.1 12) (χ.1 13) (χ.2.1 1) (χ.2.1 2) (χ.2.1 3) (χ.1 14) (χ.1 15) (χ.2.1 4) (χ.2.2.1 0) (χ.2.2.1 1) (χ.1 16) (χ.1 17) (χ.2.1 5) (χ.1 18) (χ.2.1 6) (χ.2.1 7) (χ.1 19) (χ.2.1 8) (χ.2.1 9) (χ.2.1 10) (χ.1 20) (χ.1 21) χ.2.2.2.2.1 (χ.2.2.2.2.2.2.1 0) (χ.2.2.2.1 0) (χ.2.2.2.1 1) (χ.2.2.2.1 2) (χ.2.2.2.1 3) (χ.2.2.2.1 4) (χ.2.2.2.1 5) t.2.2.2.2.2.2.1 t.2.2.2.2.2.2.2)) (wn := fun t => zRT G χ (t.2.2.1, t.2.2.2.1, t.2.2.2.2.1, t.2.2.2.2.2.1, ρ1.2.2.2.2.1, t.2.2.2.2.2.2.1, t.2.2.2.2.2.2.2) ++ [(qn, .inr (9, [.null, .int 0, .int 0]))]) (zpt (perm_pos 12 [4, 5, 6, 7, 8, 9, 10, 11, 0, 1, 2, 3] rfl (by decide) rfl)) (fun t => zpt' (perm_pos 12 [8, 9, 10, 11, 0, 1, 2, 3, 4, 5, 6, 7] rfl (by decide) rfl)) ⟨hx, hb, hml, hown, hts⟩ (mt_rf_number l G (χ.1 10) (χ.1 0) ρ1.1 ρ1.2.1 ρ1.2.2.1 ρ1.2.2.2.1 (nI ρ1.2.2.2.2.1) (χ.2.1 0) (χ.1 11) (χ.1 12) (χ.1 13) (χ.2.1 1) (χ.2.1 2) (χ.2.1 3) (χ.1 14) (χ.1 15) (χ.2.1 4) (χ.2.2.1 0) (χ.2.2.1 1) (χ.1 16) (χ.1 17) (χ.2.1 5) (χ.1 18) (χ.2.1 6) (χ.2.1 7) (χ.1 19) (χ.2.1 8) (χ.2.1 9) (χ.2.1 10) (χ.1 20) (χ.1 21) χ.2.2.2.2.1 (χ.2.2.2.2.2.2.1 0) (χ.2.2.2.1 0) (χ.2.2.2.1 1) (χ.2.2.2.1 2) (χ.2.2.2.1 3) (χ.2.2.2.1 4) (χ.2.2.2.1 5) ρ1.2.2.2.2.2.1 ρ1.2.2.2.2.2.2 1 99 hχ.1 hρ1.1 hρ1.2.1 hρ1.2.2 H.size) (cwV 2 hts (lw_V q745 q747 qs13 q151 q748) rfl rfl rfl hd_X8_number ⟨by show 3 + 1 ≤ Ds + 12; omega, by show 8 + (4 + 11) + 64 * 3 ≤ 64 * (Ds + 12); omega⟩) hP hD hS hA hK hE 0 8 rfl rfl rfl hl.1 rfl (Nat.le_of_ble_eq_true rfl) dX8_block_24 ⟨by show 0 + 1 + 0 ≤ 2 + 3 * ((yBt (yBl χ stp w ρ)).1.2.2.2.2.1 - ρ.2.2.2.2.1); omega, by show 0 + 3 + 0 ≤ 9 + 80 * ((yBt (yBl χ stp w ρ)).1.2.2.2.2.1 - ρ.2.2.2.2.1); omega⟩ (fun t ht hct hft H locs hP hD hS _ => ?_) (fun t ht hct hft H locs hP hD hS _ => ?_)
    · obtain ⟨hnx8, hso8, hpr8, hnm8⟩ := hft
      have hpr7 := hpr8.resolve_left (by rw [hct]; decide)
      have hq1 := zpl1 (hnm8.resolve_left (by rw [hct]; decide))
      have hhd : yHd χ w (yNx χ ρ) = ((t.2.2.1, t.2.2.2.1, t.2.2.2.2.1, t.2.2.2.2.2.1, ρ1.2.2.2.2.1, t.2.2.2.2.2.2.1, t.2.2.2.2.2.2.2), some (.inl (t.2.1.toNatClampNeg))) := by rw [hn1]; unfold yHd; rw [if_neg hw, zlet_eq (show yNu χ ρ1 1 99 = _ from zlet_eq ht)]; rw [if_pos hct]; rfl
      refine zr_val (v' := .int (nI t.2.1.toNatClampNeg)) (congrArg Value.int (z_nn hq1.1)) ?_
      refine zr_muNI (τ := Unit) (F := ()) (ff := fun _ _ => True) (wr := zRT G χ (t.2.2.1, t.2.2.2.1, t.2.2.2.2.1, t.2.2.2.2.2.1, ρ1.2.2.2.2.1, t.2.2.2.2.2.2.1, t.2.2.2.2.2.2.2)) (w0 := [(qn, .inr (9, [.null, .int 0, .int 0]))]) (w1 := fun _ u => [(qn, .inr (9, [.ref (u 0), .int 0, .int (nI t.2.1.toNatClampNeg)])), (u 0, .inl (G.2 6, 4, .inr (.inr (.inr (.inr (fun _ => none))))))]) (wn := fun _ u => zRT G χ (t.2.2.1, t.2.2.2.1, t.2.2.2.2.1, t.2.2.2.2.2.1, ρ1.2.2.2.2.1, t.2.2.2.2.2.2.1, t.2.2.2.2.2.2.2) ++ [(qn, .inr (9, [.ref (u 0), .int 0, .int (nI t.2.1.toNatClampNeg)])), (u 0, .inl (G.2 6, 4, .inr (.inr (.inr (.inr (fun _ => none))))))]) (List.Perm.refl _) (fun _ _ => List.Perm.refl _) ⟨hx, hb, hml, hown, hts⟩ (mt_cf_Loop l G qn (nI t.2.1.toNatClampNeg) H.size) (cwI 1 hts (lw_meth q871) rfl rfl rfl (hts _ q159) (hts _ q934) (hts _ q870) rfl hd_X11_init.2 ⟨by show 4 + 1 ≤ Ds + 12; omega, by show 8 + (2 + 11) + 64 * 4 ≤ 64 * (Ds + 12); omega⟩) hP hD hS hA hK hE rfl hl.1 rfl (Nat.le_of_ble_eq_true rfl) dX8_block_27 ⟨by show 0 + 1 + 0 + 1 ≤ 2 + 3 * ((yBt (yBl χ stp w ρ)).1.2.2.2.2.1 - ρ.2.2.2.2.1); omega, by show 0 + 3 + 0 + 4 ≤ 9 + 80 * ((yBt (yBl χ stp w ρ)).1.2.2.2.2.1 - ρ.2.2.2.2.1); omega⟩ (fun _ u _ _ H locs hP hD hS _ => ?_)
      refine hJ30 _ (.inl t.2.1.toNatClampNeg) qn (u 0) (fun n h => by cases h; exact hq1.2) hhd ⟨hnx8.1, hnx8.2, hso8⟩ ?_ h1s H locs _ _ (Nat.le_refl 2) (by show 0 + 3 + 0 + 4 ≤ 9; omega) ?_ ?_ hS ls hl
      · show ρ.2.1 ≤ t.2.2.1; have := hρ1.1; omega
      · rw [zAr, zAr_nil]; exact hP
      · rw [zAr, zAr_nil]; exact hD
    · have hhd : yHd χ w (yNx χ ρ) = ((t.2.2.1, t.2.2.2.1, t.2.2.2.2.1, t.2.2.2.2.2.1, ρ1.2.2.2.2.1, t.2.2.2.2.2.2.1, t.2.2.2.2.2.2.2), none) := by rw [hn1]; unfold yHd; rw [if_neg hw, zlet_eq (show yNu χ ρ1 1 99 = _ from zlet_eq ht)]; rw [if_neg (xfl hct)]; rfl
      have e_ : (yBt (yBl χ stp w ρ)) = ((t.2.2.1, t.2.2.2.1, t.2.2.2.2.1, t.2.2.2.2.2.1, ρ1.2.2.2.2.1, t.2.2.2.2.2.2.1, t.2.2.2.2.2.2.2), none) := by unfold yBl; rw [zlet_eq hhd, zoc_n rfl]; rfl
      exact hX _ e_ _ _ _ _ _ _ _ _ (by show 0 + 1 + 0 ≤ _; omega) (by show 0 + 3 + 0 ≤ _; omega) hP hD hS
  · refine lv_aload_n hx hb dX8_block_8 rfl (lv_at hl 0 rfl) ?_
    refine lv_aload_n hx hb dX8_block_9 rfl (lv_at hl 1 rfl) ?_
    have hM := mt_rf_when l G (χ.1 10) (χ.1 0) ρ1.1 ρ1.2.1 ρ1.2.2.1 ρ1.2.2.2.1 (nI ρ1.2.2.2.2.1) (χ.2.1 0) (χ.1 11) (χ.1 12) (χ.1 13) (χ.2.1 1) (χ.2.1 2) (χ.2.1 3) (χ.1 14) (χ.1 15) (χ.2.1 4) (χ.2.2.1 0) (χ.2.2.1 1) (χ.1 16) (χ.1 17) (χ.2.1 5) (χ.1 18) (χ.2.1 6) (χ.2.1 7) (χ.1 19) (χ.2.1 8) (χ.2.1 9) (χ.2.1 10) (χ.1 20) (χ.1 21) χ.2.2.2.2.1 (χ.2.2.2.2.2.2.1 0) (χ.2.2.2.1 0) (χ.2.2.2.1 1) (χ.2.2.2.1 2) (χ.2.2.2.1 3) (χ.2.2.2.1 4) (χ.2.2.2.1 5) ρ1.2.2.2.2.2.1 ρ1.2.2.2.2.2.2 (χ.1 22) (χ.1 23) (χ.1 24) (χ.1 25) (χ.1 26) (χ.1 27) (χ.1 28) (χ.1 29) (χ.1 1) (χ.1 2) (χ.2.1 11) (χ.2.1 12) (χ.2.1 13) (χ.1 3) (χ.1 4) χ.2.2.2.2.2.1 (χ.2.2.2.2.2.2.1 1) (χ.2.2.2.2.2.2.1 2) (χ.2.2.2.2.2.2.1 3) (χ.2.2.2.2.2.2.2 0) (χ.2.2.2.2.2.2.2 1) (χ.2.2.2.2.2.2.1 4) (χ.2.2.2.2.2.2.1 5) hχ.1 hρ1.1 hρ1.2.1 hρ1.2.2 hχ.2.1 hχ.2.2.1 hχ.2.2.2.1 hχ.2.2.2.2.1 hχ.2.2.2.2.2.1 hχ.2.2.2.2.2.2 H.size
    obtain ⟨t, ht⟩ : ∃ t, rf_when (χ.1 0) ρ1.1 ρ1.2.1 ρ1.2.2.1 ρ1.2.2.2.1 (χ.2.2.2.2.2.2.1 0) ρ1.2.2.2.2.2.1 ρ1.2.2.2.2.2.2 (χ.1 1) (χ.1 2) = t := ⟨_, rfl⟩
    rw [ht] at hM
    have hhd : yHd χ w (yNx χ ρ) = ((t.2.1, t.2.2.1, t.2.2.2.1, t.2.2.2.2.1, ρ1.2.2.2.2.1, t.2.2.2.2.2.1, t.2.2.2.2.2.2.1), if t.1 = true then some (.inr (yTe χ ρ1, t.2.2.2.2.2.2.2.1, t.2.2.2.2.2.2.2.2)) else none) := by rw [hn1]; unfold yHd; rw [if_pos hw, zlet_eq (show yWh χ ρ1 = _ from zlet_eq ht)]; cases t.1 <;> rfl
    refine zr_muXEV (q := (RX8, TX8, 8)) (S := Nat → Nat) (wr := []) (wn := fun u => zRT G χ (t.2.1, t.2.2.1, t.2.2.2.1, t.2.2.2.2.1, ρ1.2.2.2.2.1, t.2.2.2.2.2.1, t.2.2.2.2.2.2.1) ++ [(u 0, .inr (10, [.ref (u 1), .int 0, .int (yTe χ ρ1), .int t.2.2.2.2.2.2.2.1, .int t.2.2.2.2.2.2.2.2])), (u 1, .inl (G.2 6, 4, .inr (.inr (.inr (.inr (fun _ => none))))))]) (wnx := fun _ => zRT G χ (t.2.1, t.2.2.1, t.2.2.2.1, t.2.2.2.2.1, ρ1.2.2.2.2.1, t.2.2.2.2.2.1, t.2.2.2.2.2.2.1)) (List.Perm.refl _) (fun u => List.Perm.refl _) (fun _ => List.Perm.refl _) ⟨hx, hb, hml, hown, hts⟩ hM (cwV 1 hts (lw_V q907 q909 qs31 q151 q910) rfl rfl rfl hd_X8_when ⟨by show 7 + 1 ≤ Ds + 12; omega, by show 8 + (4 + 11) + 64 * 7 ≤ 64 * (Ds + 12); omega⟩) hP hD hS hA hK hE 0 8 rfl rfl rfl hl.1 rfl (Nat.le_of_ble_eq_true rfl) dX8_block_10 ⟨by show 0 + 2 ≤ 2 + 3 * ((yBt (yBl χ stp w ρ)).1.2.2.2.2.1 - ρ.2.2.2.2.1); omega, by show 0 + 9 ≤ 9 + 80 * ((yBt (yBl χ stp w ρ)).1.2.2.2.2.1 - ρ.2.2.2.2.1); omega⟩ (fun u hfu H locs hP hD hS _ => ?_) (fun u hfu H locs hP hD hS _ => ?_)
    · obtain ⟨hok, hnx8, hso8, hpr8⟩ := hfu
      have hpr7 := hpr8.resolve_left (by rw [hok]; decide)
      rw [if_pos hok] at hhd
      refine lv_goto (tgt := 30) hx hb dX8_block_13 (by decide) ?_
      refine hJ30 _ (.inr (yTe χ ρ1, t.2.2.2.2.2.2.2.1, t.2.2.2.2.2.2.2.2)) (u 0) (u 1) (fun n h => by cases h) hhd ⟨hnx8.1, hnx8.2, hso8⟩ ?_ h1s H locs _ _ (Nat.le_refl 2) (Nat.le_refl 9) ?_ ?_ hS ls hl
      · show ρ.2.1 ≤ t.2.1; have := hρ1.1; omega
      · rw [zAr, zAr_nil]; exact hP
      · rw [zAr, zAr_nil]; exact hD
    · rw [if_neg (xfl hfu.1)] at hhd
      have e_ : (yBt (yBl χ stp w ρ)) = ((t.2.1, t.2.2.1, t.2.2.2.1, t.2.2.2.2.1, ρ1.2.2.2.2.1, t.2.2.2.2.2.1, t.2.2.2.2.2.2.1), none) := by unfold yBl; rw [zlet_eq hhd, zoc_n rfl]; rfl
      exact hX _ e_ [] _ _ _ _ _ _ _ (by show 0 + 2 ≤ _; omega) (by show 0 + 9 ≤ _; omega) (by rw [List.append_nil]; exact hP) (by rw [List.append_nil]; exact hD) hS
theorem zTr_cls {G : zG} : ∀ (n : Nat) (t : yT n) (a : Nat) (w : va_W), zTr G n t a w → ∃ (ci : Nat) (fs : List Value) (r : vw_C), (a, .inr (ci, fs)) ∈ w ∧ zcl[ci]? = some r ∧ (r.1, "WindowHill$Step") ∈ zCA
  | 0, t, a, w, h => by
    have h : w = aW_ G a t.1 (nI t.2) := h
    subst h
    exact ⟨11, _, _, List.mem_cons_self, rfl, by decide⟩
  | n + 1, t, a, w, h => by
    cases t with
    | inl t =>
      have h : w = aW_ G a t.1 (nI t.2) := h
      subst h
      exact ⟨11, _, _, List.mem_cons_self, rfl, by decide⟩
    | inr b =>
      cases b with
      | inl b =>
        obtain ⟨q, cap, as, ks, -, -, -, rfl⟩ := h
        exact ⟨9, _, _, List.mem_cons_self, rfl, by decide⟩
      | inr b =>
        obtain ⟨q, cap, as, ks, -, -, -, rfl⟩ := h
        exact ⟨10, _, _, List.mem_cons_self, rfl, by decide⟩
theorem yStep_mono {χ : yK} : ∀ (n : Nat) (ρ : yR), ρ.2.2.2.2.1 ≤ (yStep χ n ρ).1.2.2.2.2.1
  | 0, ρ => yStp_mono (fun _ _ => Nat.le_refl _)
  | n + 1, ρ => yStp_mono (yBl_mono (yStep_mono n))
theorem mt_steps (l : Launch) (G : zG) (χ : yK) (hχ : yOKx χ) : ∀ (n : Nat), n ≤ 3 → zStpOK l G χ (3 - n) (24 * n + 12) (zTr G n) (yWf (χ.1 3) n) (yStep χ n) := by
  intro n
  induction n with
  | zero =>
    intro _
    exact mt_stepS l G χ hχ (zTr G 0) (yWf (χ.1 3) 0) (fun t => t) (fun _ ρ => (ρ, none)) true 3 0 (by decide) (by decide) (fun t a => rfl) (fun t h => h) (zTr_cls 0) (fun h => by cases h) (fun _ _ => Nat.le_refl _)
  | succ n ih =>
    intro hn
    have h1 := ih (by omega)
    rw [show 3 - n = (3 - (n + 1)) + 1 by omega] at h1
    have h2 := mt_blockS l G χ hχ (zTr G n) (yWf (χ.1 3) n) (yStep χ n) (3 - (n + 1)) (24 * n + 12) (by omega) (zTr_cls n) h1 (yStep_mono n) (by omega)
    have h3 := mt_stepS l G χ hχ (zTr G (n + 1)) (yWf (χ.1 3) (n + 1)) (fun t => .inl t) (fun w ρ => yBt (yBl χ (yStep χ n) w ρ)) false (3 - (n + 1)) (24 * n + 12 + 12) (by omega) ⟨fun h => (by cases h), fun h => (by omega)⟩ (fun t a => rfl) (fun t h => h) (zTr_cls (n + 1)) (fun _ => h2) (yBl_mono (yStep_mono n))
    rw [show 24 * n + 12 + 12 + 12 = 24 * (n + 1) + 12 by omega] at h3
    exact h3
