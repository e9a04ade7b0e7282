def mLV (a : Nat → Int32) (Wd R nr nc nn : Nat) : Prop := mOK a Wd R nr nc ∧ (a 11 = -1 ∨ mYR a Wd R nr nc nn)
theorem mLV_G {a : Nat → Int32} {Wd R nr nc nn : Nat} (h : mLV a Wd R nr nc nn) : mOK a Wd R nr nc := h.1
theorem mLV_y {a : Nat → Int32} {Wd R nr nc nn : Nat} (h : mYR a Wd R nr nc nn) : mLV a Wd R nr nc nn := ⟨h.1, Or.inr h⟩
theorem z_dec {n : Nat} (h : 0 < n) : nI n + (-1) = nI (n - 1) := by
  obtain ⟨m, rfl⟩ : ∃ m, n = m + 1 := ⟨n - 1, by omega⟩
  exact pk_m1 m
theorem ab_32 {m_at m_canBe : Nat → Int32} {Wd R row y : Nat} {undr x : Int32} {still : Bool} (hW : Wd < 6) (e : x = mf_aboveOf m_at m_canBe Wd row undr y still) (h : ¬ x = -1) : ¬ x < 0 ∧ x.toNatClampNeg < 32 := by
  subst e
  exact aboveOf_r (R := R) hW h
def mf_live_B43 (t_3 : Int32 × Int32 × (Nat → Int32) × (Nat → Int32) × (Nat → Int32) × (Nat → Int32)) (k_4 : Nat) (s_4 : (Nat → Int32)) : (Nat → Int32) :=
  upd s_4 k_4 (t_3.2.2.2.2.2 k_4)
def mf_live_L43 (t_3 : Int32 × Int32 × (Nat → Int32) × (Nat → Int32) × (Nat → Int32) × (Nat → Int32)) (s_4 : (Nat → Int32)) : (Nat → Int32) := zf (mf_live_B43 t_3) s_4 5
def mf_live (m_drawn : Int32) (m_ranSteps : Int32) (m_isTold : Bool) (m_at : Nat → Int32) (m_beside : Nat → Int32) (m_loops : Nat → Int32) (m_ran : Nat → Int32) (m_told0 : Nat → Int32) (Wd : Nat) (R : Nat) (nr : Nat) (nc : Nat) (nn : Nat) (seed : Int32) : Int32 × Int32 × Int32 × Int32 × Bool × (Nat → Int32) × (Nat → Int32) × (Nat → Int32) × (Nat → Int32) × (Nat → Int32) :=
  (if (mf_isFrom seed.toInt64 0 9999) = true then
    (if (m_at 11) = (-1) then
      ((-1), 6, m_drawn, m_ranSteps, m_isTold, m_at, m_beside, m_loops, m_ran, m_told0)
    else
      zlet (mf_lives m_at m_beside m_loops m_ran Wd R nr nc nn seed) (fun t_3 =>
      zlet (mf_live_L43 t_3 m_told0) (fun s_4 =>
      (t_3.2.1, 0, t_3.1, t_3.2.1, true, t_3.2.2.1, t_3.2.2.2.1, t_3.2.2.2.2.1, t_3.2.2.2.2.2, s_4))))
  else
    ((-1), 1, m_drawn, m_ranSteps, m_isTold, m_at, m_beside, m_loops, m_ran, m_told0))
theorem hd_X7_live : yX7_live.cls = RX7 ∧ yX7_live.cls ≠ "java/lang/invoke/MethodHandle" ∧ yX7_live.cls ≠ "java/lang/invoke/VarHandle" ∧ (parseMethodDescriptor yX7_live.desc).map (fun d => d.parameters.length) = some 1 := by decide +kernel
set_option maxHeartbeats 4000000 in
set_option maxRecDepth 100000 in
theorem mt_mf_live (l : Launch) (G : zG) (ad : Nat → Nat) (m_status : Int32) (m_top : Int64) (m_bottom : Int64) (m_taped : Int32) (m_size : Int32) (m_token : Int32) (m_from : Int32) (m_end : Int32) (m_value : Int32) (m_faultKind : Int32) (m_faultPlace : Int32) (m_faults : Int32) (m_seen : Int32) (m_depth : Int32) (m_counted : Int32) (m_lead : Int32) (m_round : Int32) (m_tried : Int32) (m_triedMany : Int32) (m_drawn : Int32) (m_ranSteps : Int32) (m_isTold : Bool) (m_marks : Int32) (m_at : Nat → Int32) (m_names : Nat → Int64) (m_sort : Nat → Int32) (m_trayMany : Nat → Int32) (m_trays : Nat → Int64) (m_tape : Nat → Int32) (m_text : Nat → Int32) (m_opened : Nat → Int32) (m_beside : Nat → Int32) (m_then : Nat → Int32) (m_ways : Nat → Int64) (m_further : Nat → Int64) (m_canBe : Nat → Int32) (m_loops : Nat → Int32) (m_ran : Nat → Int32) (m_told0 : Nat → Int32) (Wd : Nat) (R : Nat) (nr : Nat) (nc : Nat) (nn : Nat) (seed : Int32) (hV : mLV m_at Wd R nr nc nn) (hL : mLP m_loops) (sz : Nat) : Met l yX7_live (ws_ yX7_live cX7_live 3 (some .int)) (zR 9 0 0) (zPm G sz [.ref (ad 0), .int seed] (mW G ad m_status m_top m_bottom m_taped m_size m_token m_from m_end m_value m_faultKind m_faultPlace m_faults m_seen m_depth m_counted m_lead m_round m_tried m_triedMany m_drawn m_ranSteps m_isTold m_marks m_at m_names m_sort m_trayMany m_trays m_tape m_text m_opened m_beside m_then m_ways m_further m_canBe m_loops m_ran m_told0)) (zQm G (mLV ((mf_live m_drawn m_ranSteps m_isTold m_at m_beside m_loops m_ran m_told0 Wd R nr nc nn seed).2.2.2.2.2.1) Wd R nr nc nn ∧ mLP ((mf_live m_drawn m_ranSteps m_isTold m_at m_beside m_loops m_ran m_told0 Wd R nr nc nn seed).2.2.2.2.2.2.2.1) ) (some (.int ((mf_live m_drawn m_ranSteps m_isTold m_at m_beside m_loops m_ran m_told0 Wd R nr nc nn seed).1))) (mW G ad ((mf_live m_drawn m_ranSteps m_isTold m_at m_beside m_loops m_ran m_told0 Wd R nr nc nn seed).2.1) m_top m_bottom m_taped m_size m_token m_from m_end m_value m_faultKind m_faultPlace m_faults m_seen m_depth m_counted m_lead m_round m_tried m_triedMany ((mf_live m_drawn m_ranSteps m_isTold m_at m_beside m_loops m_ran m_told0 Wd R nr nc nn seed).2.2.1) ((mf_live m_drawn m_ranSteps m_isTold m_at m_beside m_loops m_ran m_told0 Wd R nr nc nn seed).2.2.2.1) ((mf_live m_drawn m_ranSteps m_isTold m_at m_beside m_loops m_ran m_told0 Wd R nr nc nn seed).2.2.2.2.1) m_marks ((mf_live m_drawn m_ranSteps m_isTold m_at m_beside m_loops m_ran m_told0 Wd R nr nc nn seed).2.2.2.2.2.1) m_names m_sort m_trayMany m_trays m_tape m_text m_opened ((mf_live m_drawn m_ranSteps m_isTold m_at m_beside m_loops m_ran m_told0 Wd R nr nc nn seed).2.2.2.2.2.2.1) m_then m_ways m_further m_canBe ((mf_live m_drawn m_ranSteps m_isTold m_at m_beside m_loops m_ran m_told0 Wd R nr nc nn seed).2.2.2.2.2.2.2.1) ((mf_live m_drawn m_ranSteps m_isTold m_at m_beside m_loops m_ran m_told0 Wd R nr nc nn seed).2.2.2.2.2.2.2.2.1) ((mf_live m_drawn m_ranSteps m_isTold m_at m_beside m_loops m_ran m_told0 Wd R nr nc nn seed).2.2.2.2.2.2.2.2.2)) (va_A (mW G ad m_status m_top m_bottom m_taped m_size m_token m_from m_end m_value m_faultKind m_faultPlace m_faults m_seen m_depth m_counted m_lead m_round m_tried m_triedMany m_drawn m_ranSteps m_isTold m_marks m_at m_names m_sort m_trayMany m_trays m_tape m_text m_opened m_beside m_then m_ways m_further m_canBe m_loops m_ran m_told0) sz)) 0 0 (va_A (mW G ad m_status m_top m_bottom m_taped m_size m_token m_from m_end m_value m_faultKind m_faultPlace m_faults m_seen m_depth m_counted m_lead m_round m_tried m_triedMany m_drawn m_ranSteps m_isTold m_marks m_at m_names m_sort m_trayMany m_trays m_tape m_text m_opened m_beside m_then m_ways m_further m_canBe m_loops m_ran m_told0) sz) := by
  refine zr_entM (by decide) (Nat.le_of_ble_eq_true rfl) ?_
  intro p e s m below meth c ⟨hx, hb, hr, hml, hown, hts, hlocks, hnm⟩ ls hl hP hK A hE hA hD hS
  have hown : s.vm.findClass RX7 = some m.cls := hown
  have hl : lv_has ls 3 [(0, .ref (ad 0)), (1, .int seed)] := hl
  obtain ⟨H, hH⟩ : ∃ H, H = s.heap := ⟨_, rfl⟩
  obtain ⟨locs, hlo⟩ : ∃ L : List Loc, L = [] := ⟨_, rfl⟩
  rw [← hH] at hP
  have hS : va_S A s.heap H locs := by rw [hH, hlo]; exact va_S.rf
  have hgo : W p l e (zR 9 0 0) s m ([.ref (ad 0), .int seed] : List Value).toArray below meth c H locs 0 0 (MQ below (zQm G (mLV ((mf_live m_drawn m_ranSteps m_isTold m_at m_beside m_loops m_ran m_told0 Wd R nr nc nn seed).2.2.2.2.2.1) Wd R nr nc nn ∧ mLP ((mf_live m_drawn m_ranSteps m_isTold m_at m_beside m_loops m_ran m_told0 Wd R nr nc nn seed).2.2.2.2.2.2.2.1) ) (some (.int ((mf_live m_drawn m_ranSteps m_isTold m_at m_beside m_loops m_ran m_told0 Wd R nr nc nn seed).1))) (mW G ad ((mf_live m_drawn m_ranSteps m_isTold m_at m_beside m_loops m_ran m_told0 Wd R nr nc nn seed).2.1) m_top m_bottom m_taped m_size m_token m_from m_end m_value m_faultKind m_faultPlace m_faults m_seen m_depth m_counted m_lead m_round m_tried m_triedMany ((mf_live m_drawn m_ranSteps m_isTold m_at m_beside m_loops m_ran m_told0 Wd R nr nc nn seed).2.2.1) ((mf_live m_drawn m_ranSteps m_isTold m_at m_beside m_loops m_ran m_told0 Wd R nr nc nn seed).2.2.2.1) ((mf_live m_drawn m_ranSteps m_isTold m_at m_beside m_loops m_ran m_told0 Wd R nr nc nn seed).2.2.2.2.1) m_marks ((mf_live m_drawn m_ranSteps m_isTold m_at m_beside m_loops m_ran m_told0 Wd R nr nc nn seed).2.2.2.2.2.1) m_names m_sort m_trayMany m_trays m_tape m_text m_opened ((mf_live m_drawn m_ranSteps m_isTold m_at m_beside m_loops m_ran m_told0 Wd R nr nc nn seed).2.2.2.2.2.2.1) m_then m_ways m_further m_canBe ((mf_live m_drawn m_ranSteps m_isTold m_at m_beside m_loops m_ran m_told0 Wd R nr nc nn seed).2.2.2.2.2.2.2.1) ((mf_live m_drawn m_ranSteps m_isTold m_at m_beside m_loops m_ran m_told0 Wd R nr nc nn seed).2.2.2.2.2.2.2.2.1) ((mf_live m_drawn m_ranSteps m_isTold m_at m_beside m_loops m_ran m_told0 Wd R nr nc nn seed).2.2.2.2.2.2.2.2.2)) A) ([.ref (ad 0), .int seed] : List Value).toArray s 0 0 A) (F0 m 0 ls []) := ?_
  · rw [hH, hlo] at hgo; exact hgo
  clear hH hlo
  have hG := hV.1
  have hWR := mOK_WR hG
  have hW0 := mOK_W0 hG
  have hW5 := mOK_W5 hG
  have hR0 := mOK_R0 hG
  have hR6 := mOK_R6 hG
  have hn4 := mOK_n4 hG
  have hc6 := mOK_c6 hG
  refine lv_iload_n hx hb dX7_live_0 rfl (lv_at hl 1 rfl) ?_
  refine lv_i2l hx hb dX7_live_1 rfl ?_
  refine lv_lconst (v := 0) hx hb dX7_live_2 rfl ?_
  refine lv_ldc2 (v := 9999) hx hb hown (hts _ q1942) dX7_live_3 ?_
  refine zr_puS ⟨hx, hb, hml, hown, hts⟩ (mt_mf_isFrom l seed.toInt64 0 9999) (va_cwS 3 hts (lw_S q1848 q1849 q144 q1850) rfl rfl rfl hd_X7_isFrom.2 ⟨(Nat.le_of_ble_eq_true rfl), (Nat.le_of_ble_eq_true rfl)⟩) rfl hl.1 rfl (Nat.le_of_ble_eq_true rfl) dX7_live_6 ⟨Nat.le_refl _, Nat.le_refl _⟩ ?_
  refine zr_neB (mf_isFrom seed.toInt64 0 9999) (tgt := 18) hx hb dX7_live_9 (by decide) (fun c_1 => ?_) (fun c_1 => ?_)
  · refine lv_aload_n hx hb dX7_live_18 rfl (lv_at hl 0 rfl) ?_
    refine va_get (D := G.1) (ci := 7) (v := .ref (ad 1)) (C := RX7) (T := TX7) (N := 39) hx hb hts in_X7 hown hK.1 hP 0 rfl rfl 0 (Nat.le_of_ble_eq_true rfl) (hts _ q1467) (fun _ h => h) rfl dX7_live_19 ?_
    refine lv_bipush (v := 11) hx hb dX7_live_22 (by decide) ?_
    refine zr_iald 11 (v := m_at 11) hx hb hK hP 1 rfl rfl (Nat.le_of_ble_eq_true rfl) rfl (by decide) rfl dX7_live_24 ?_
    refine lv_iconst (v := (-1)) hx hb dX7_live_25 (by decide) ?_
    refine lv_icmp_ne (tgt := 36) hx hb dX7_live_26 (by decide) (fun c_2 => ?_) (fun c_2 => ?_)
    · have hYr := hV.2.resolve_left c_2
      refine lv_aload_n hx hb dX7_live_36 rfl (lv_at hl 0 rfl) ?_
      refine lv_iload_n hx hb dX7_live_37 rfl (lv_at hl 1 rfl) ?_
      refine zr_muV (F := mf_lives m_at m_beside m_loops m_ran Wd R nr nc nn seed) (ff := fun t_3 => mYR t_3.2.2.1 Wd R nr nc nn ∧ mLP t_3.2.2.2.2.1 ) (rr := fun t_3 => none) (w1 := fun t_3 => (mW G ad m_status m_top m_bottom m_taped m_size m_token m_from m_end m_value m_faultKind m_faultPlace m_faults m_seen m_depth m_counted m_lead m_round m_tried m_triedMany t_3.1 t_3.2.1 m_isTold m_marks t_3.2.2.1 m_names m_sort m_trayMany m_trays m_tape m_text m_opened t_3.2.2.2.1 m_then m_ways m_further m_canBe t_3.2.2.2.2.1 t_3.2.2.2.2.2 m_told0)) ⟨hx, hb, hml, hown, hts⟩ (mt_mf_lives l G ad m_status m_top m_bottom m_taped m_size m_token m_from m_end m_value m_faultKind m_faultPlace m_faults m_seen m_depth m_counted m_lead m_round m_tried m_triedMany m_drawn m_ranSteps m_isTold m_marks m_at m_names m_sort m_trayMany m_trays m_tape m_text m_opened m_beside m_then m_ways m_further m_canBe m_loops m_ran m_told0 Wd R nr nc nn seed hYr hL H.size) (cwV 1 hts (lw_V q2106 q2108 qs126 q144 q2109) rfl rfl rfl hd_X7_lives ⟨(Nat.le_of_ble_eq_true rfl), (Nat.le_of_ble_eq_true rfl)⟩) hP hD hS hA hK hE 0 7 rfl rfl rfl hl.1 rfl (Nat.le_of_ble_eq_true rfl) dX7_live_38 ⟨Nat.le_refl _, Nat.le_refl _⟩ (fun t_3 ht_3 hft_3 H locs hP hD hS _ => ?_)
      refine W.eq (g2 := F0 m 41 ls []) rfl ?_
      obtain ⟨ok_m_at_t_3, ok_m_loops_t_3⟩ := hft_3
      refine lv_iconst (v := 0) hx hb dX7_live_41 (by decide) ?_
      refine lv_istore_n (lv' := [(2, .int 0), (0, .ref (ad 0)), (1, .int seed)]) hx hb dX7_live_42 rfl hl (by decide) rfl (fun ls hl => ?_)
      have hlp_4 : ∀ (n k_4 : Nat) (s_4 : (Nat → Int32)), k_4 ≤ 5 → 5 < k_4 + n → zf (mf_live_B43 t_3) m_told0 k_4 = s_4 → ∀ (H : Heap) (locs : List Loc), va_P G.1 zcl (mW G ad m_status m_top m_bottom m_taped m_size m_token m_from m_end m_value m_faultKind m_faultPlace m_faults m_seen m_depth m_counted m_lead m_round m_tried m_triedMany t_3.1 t_3.2.1 m_isTold m_marks t_3.2.2.1 m_names m_sort m_trayMany m_trays m_tape m_text m_opened t_3.2.2.2.1 m_then m_ways m_further m_canBe t_3.2.2.2.2.1 t_3.2.2.2.2.2 s_4) H → va_D A (mW G ad m_status m_top m_bottom m_taped m_size m_token m_from m_end m_value m_faultKind m_faultPlace m_faults m_seen m_depth m_counted m_lead m_round m_tried m_triedMany t_3.1 t_3.2.1 m_isTold m_marks t_3.2.2.1 m_names m_sort m_trayMany m_trays m_tape m_text m_opened t_3.2.2.2.1 m_then m_ways m_further m_canBe t_3.2.2.2.2.1 t_3.2.2.2.2.2 s_4) → va_S A s.heap H locs → ∀ ls : Array Slot, lv_has ls 3 [(2, .int (nI k_4)), (0, .ref (ad 0))] → W p l e (zR 9 0 0) s m ([.ref (ad 0), .int seed] : List Value).toArray below meth c H locs 0 0 (MQ below (zQm G (mLV ((mf_live m_drawn m_ranSteps m_isTold m_at m_beside m_loops m_ran m_told0 Wd R nr nc nn seed).2.2.2.2.2.1) Wd R nr nc nn ∧ mLP ((mf_live m_drawn m_ranSteps m_isTold m_at m_beside m_loops m_ran m_told0 Wd R nr nc nn seed).2.2.2.2.2.2.2.1) ) (some (.int ((mf_live m_drawn m_ranSteps m_isTold m_at m_beside m_loops m_ran m_told0 Wd R nr nc nn seed).1))) (mW G ad ((mf_live m_drawn m_ranSteps m_isTold m_at m_beside m_loops m_ran m_told0 Wd R nr nc nn seed).2.1) m_top m_bottom m_taped m_size m_token m_from m_end m_value m_faultKind m_faultPlace m_faults m_seen m_depth m_counted m_lead m_round m_tried m_triedMany ((mf_live m_drawn m_ranSteps m_isTold m_at m_beside m_loops m_ran m_told0 Wd R nr nc nn seed).2.2.1) ((mf_live m_drawn m_ranSteps m_isTold m_at m_beside m_loops m_ran m_told0 Wd R nr nc nn seed).2.2.2.1) ((mf_live m_drawn m_ranSteps m_isTold m_at m_beside m_loops m_ran m_told0 Wd R nr nc nn seed).2.2.2.2.1) m_marks ((mf_live m_drawn m_ranSteps m_isTold m_at m_beside m_loops m_ran m_told0 Wd R nr nc nn seed).2.2.2.2.2.1) m_names m_sort m_trayMany m_trays m_tape m_text m_opened ((mf_live m_drawn m_ranSteps m_isTold m_at m_beside m_loops m_ran m_told0 Wd R nr nc nn seed).2.2.2.2.2.2.1) m_then m_ways m_further m_canBe ((mf_live m_drawn m_ranSteps m_isTold m_at m_beside m_loops m_ran m_told0 Wd R nr nc nn seed).2.2.2.2.2.2.2.1) ((mf_live m_drawn m_ranSteps m_isTold m_at m_beside m_loops m_ran m_told0 Wd R nr nc nn seed).2.2.2.2.2.2.2.2.1) ((mf_live m_drawn m_ranSteps m_isTold m_at m_beside m_loops m_ran m_told0 Wd R nr nc nn seed).2.2.2.2.2.2.2.2.2)) A) ([.ref (ad 0), .int seed] : List Value).toArray s 0 0 A) (F0 m 43 ls []) := by
        intro n
        induction n with
        | zero => intro k_4 s_4 h1 h2; exact absurd h2 (by omega)
        | succ n ih_4 =>
          intro k_4 s_4 hk_4 hn_4 hst_4 H locs hP hD hS ls hl
          refine lv_iload_n hx hb dX7_live_43 rfl (lv_at hl 0 rfl) ?_
          refine lv_iconst (v := 5) hx hb dX7_live_44 (by decide) ?_
          refine zr_ge k_4 5 (by omega) (by decide) (tgt := 66) hx hb dX7_live_45 (by decide) (fun c_4 => ?_) (fun c_4 => ?_)
          · have ek_4 : k_4 = 5 := Nat.le_antisymm hk_4 c_4
            have hs_4 : mf_live_L43 t_3 m_told0 = s_4 := by rw [ek_4] at hst_4; exact hst_4
            have hl := lv_sub hl (l' := _) [1] rfl
            refine lv_aload_n hx hb dX7_live_66 rfl (lv_at hl 0 rfl) ?_
            refine lv_iconst (v := 1) hx hb dX7_live_67 (by decide) ?_
            refine va_put (D := G.1) (ci := 7) (v := .int 1) (ty := .boolean) (C := RX7) (T := TX7) (N := 39) hx hb hts in_X7 tyX7 tyX7_ok nmX7 hown hK.1 hP hD hS 0 rfl rfl 37 (Nat.le_of_ble_eq_true rfl) (hts _ q1504) (fun _ h => h) rfl (tyX7_ok 37 (Nat.le_of_ble_eq_true rfl)) rfl rfl (Nat.le_of_ble_eq_true rfl) dX7_live_68 (fun H locs hP hD hS => ?_)
            have hP : va_P G.1 zcl (mW G ad m_status m_top m_bottom m_taped m_size m_token m_from m_end m_value m_faultKind m_faultPlace m_faults m_seen m_depth m_counted m_lead m_round m_tried m_triedMany t_3.1 t_3.2.1 true m_marks t_3.2.2.1 m_names m_sort m_trayMany m_trays m_tape m_text m_opened t_3.2.2.2.1 m_then m_ways m_further m_canBe t_3.2.2.2.2.1 t_3.2.2.2.2.2 s_4) H := hP
            have hD : va_D A (mW G ad m_status m_top m_bottom m_taped m_size m_token m_from m_end m_value m_faultKind m_faultPlace m_faults m_seen m_depth m_counted m_lead m_round m_tried m_triedMany t_3.1 t_3.2.1 true m_marks t_3.2.2.1 m_names m_sort m_trayMany m_trays m_tape m_text m_opened t_3.2.2.2.1 m_then m_ways m_further m_canBe t_3.2.2.2.2.1 t_3.2.2.2.2.2 s_4) := hD
            refine lv_aload_n hx hb dX7_live_71 rfl (lv_at hl 0 rfl) ?_
            refine lv_aload_n hx hb dX7_live_72 rfl (lv_at hl 0 rfl) ?_
            refine va_get (D := G.1) (ci := 7) (v := .int t_3.2.1) (C := RX7) (T := TX7) (N := 39) hx hb hts in_X7 hown hK.1 hP 0 rfl rfl 33 (Nat.le_of_ble_eq_true rfl) (hts _ q1500) (fun _ h => h) rfl dX7_live_73 ?_
            refine zr_muV (F := ()) (ff := fun _ => True) (rr := fun _ => some (.int t_3.2.1)) (w1 := fun _ => (mW G ad 0 m_top m_bottom m_taped m_size m_token m_from m_end m_value m_faultKind m_faultPlace m_faults m_seen m_depth m_counted m_lead m_round m_tried m_triedMany t_3.1 t_3.2.1 true m_marks t_3.2.2.1 m_names m_sort m_trayMany m_trays m_tape m_text m_opened t_3.2.2.2.1 m_then m_ways m_further m_canBe t_3.2.2.2.2.1 t_3.2.2.2.2.2 s_4)) ⟨hx, hb, hml, hown, hts⟩ (mt_mf_gives l G ad m_status m_top m_bottom m_taped m_size m_token m_from m_end m_value m_faultKind m_faultPlace m_faults m_seen m_depth m_counted m_lead m_round m_tried m_triedMany t_3.1 t_3.2.1 true m_marks t_3.2.2.1 m_names m_sort m_trayMany m_trays m_tape m_text m_opened t_3.2.2.2.1 m_then m_ways m_further m_canBe t_3.2.2.2.2.1 t_3.2.2.2.2.2 s_4 t_3.2.1 H.size) (cwV 1 hts (lw_V q1751 q1753 qs85 q144 q1754) rfl rfl rfl hd_X7_gives ⟨(Nat.le_of_ble_eq_true rfl), (Nat.le_of_ble_eq_true rfl)⟩) hP hD hS hA hK hE 0 7 rfl rfl rfl hl.1 rfl (Nat.le_of_ble_eq_true rfl) dX7_live_76 ⟨Nat.le_refl _, Nat.le_refl _⟩ (fun _ _ _ H locs hP hD hS _ => ?_)
            refine W.eq (g2 := F0 m 79 ls [.int t_3.2.1]) rfl ?_
            have e_ : mf_live m_drawn m_ranSteps m_isTold m_at m_beside m_loops m_ran m_told0 Wd R nr nc nn seed = (t_3.2.1, 0, t_3.1, t_3.2.1, true, t_3.2.2.1, t_3.2.2.2.1, t_3.2.2.2.2.1, t_3.2.2.2.2.2, s_4) := by rw [mf_live, if_pos c_1, if_neg c_2, zlet_eq ht_3, zlet_eq hs_4]
            exact zr_mi hx hb hr hlocks hP hD hS dX7_live_79 (by rw [e_])  (by rw [e_]) (by rw [e_]; exact ⟨(mLV_y ok_m_at_t_3), ok_m_loops_t_3⟩)
          · have hlt_4 : k_4 < 5 := Nat.lt_of_not_le c_4
            refine lv_aload_n hx hb dX7_live_48 rfl (lv_at hl 1 rfl) ?_
            refine va_get (D := G.1) (ci := 7) (v := .ref (ad 16)) (C := RX7) (T := TX7) (N := 39) hx hb hts in_X7 hown hK.1 hP 0 rfl rfl 36 (Nat.le_of_ble_eq_true rfl) (hts _ q1503) (fun _ h => h) rfl dX7_live_49 ?_
            refine lv_iload_n hx hb dX7_live_52 rfl (lv_at hl 0 rfl) ?_
            refine lv_aload_n hx hb dX7_live_53 rfl (lv_at hl 1 rfl) ?_
            refine va_get (D := G.1) (ci := 7) (v := .ref (ad 15)) (C := RX7) (T := TX7) (N := 39) hx hb hts in_X7 hown hK.1 hP 0 rfl rfl 35 (Nat.le_of_ble_eq_true rfl) (hts _ q1502) (fun _ h => h) rfl dX7_live_54 ?_
            refine lv_iload_n hx hb dX7_live_57 rfl (lv_at hl 0 rfl) ?_
            refine zr_iald k_4 (v := t_3.2.2.2.2.2 k_4) hx hb hK hP 15 rfl rfl (Nat.le_of_ble_eq_true rfl) rfl (by omega) rfl dX7_live_58 ?_
            refine zr_iast k_4 (ws' := (mW G ad m_status m_top m_bottom m_taped m_size m_token m_from m_end m_value m_faultKind m_faultPlace m_faults m_seen m_depth m_counted m_lead m_round m_tried m_triedMany t_3.1 t_3.2.1 m_isTold m_marks t_3.2.2.1 m_names m_sort m_trayMany m_trays m_tape m_text m_opened t_3.2.2.2.1 m_then m_ways m_further m_canBe t_3.2.2.2.2.1 t_3.2.2.2.2.2 (upd s_4 k_4 (t_3.2.2.2.2.2 k_4)))) hx hb hK hP hD hS 16 rfl rfl (Nat.le_of_ble_eq_true rfl) rfl (by omega) rfl dX7_live_59 (fun H locs hP hD hS => ?_)
            refine lv_iinc (v := nI (k_4 + 1)) (lv' := [(2, .int (nI (k_4 + 1))), (0, .ref (ad 0))]) hx hb dX7_live_60 hl (k := 0) rfl (nI_add k_4 1) (by decide) rfl (fun ls hl => ?_)
            refine lv_goto (tgt := 43) hx hb dX7_live_63 (by decide) ?_
            exact ih_4 (k_4 + 1) (upd s_4 k_4 (t_3.2.2.2.2.2 k_4)) hlt_4 (by omega) (zf_s hst_4 (by rw [mf_live_B43])) H locs hP hD hS ls (lv_sub hl [0, 1] rfl)
      exact hlp_4 (5 + 1) 0 m_told0 (Nat.zero_le _) (by omega) rfl H locs hP hD hS ls (lv_sub hl [0, 1] rfl)
    · refine lv_aload_n hx hb dX7_live_29 rfl (lv_at hl 0 rfl) ?_
      refine lv_bipush (v := 6) hx hb dX7_live_30 (by decide) ?_
      refine zr_muV (F := ()) (ff := fun _ => True) (rr := fun _ => some (.int (-1))) (w1 := fun _ => (mW G ad 6 m_top m_bottom m_taped m_size m_token m_from m_end m_value m_faultKind m_faultPlace m_faults m_seen m_depth m_counted m_lead m_round m_tried m_triedMany m_drawn m_ranSteps m_isTold m_marks m_at m_names m_sort m_trayMany m_trays m_tape m_text m_opened m_beside m_then m_ways m_further m_canBe m_loops m_ran m_told0)) ⟨hx, hb, hml, hown, hts⟩ (mt_mf_refuse l G ad m_status m_top m_bottom m_taped m_size m_token m_from m_end m_value m_faultKind m_faultPlace m_faults m_seen m_depth m_counted m_lead m_round m_tried m_triedMany m_drawn m_ranSteps m_isTold m_marks m_at m_names m_sort m_trayMany m_trays m_tape m_text m_opened m_beside m_then m_ways m_further m_canBe m_loops m_ran m_told0 6 H.size) (cwV 1 hts (lw_V q1666 q1668 qs66 q144 q1669) rfl rfl rfl hd_X7_refuse ⟨(Nat.le_of_ble_eq_true rfl), (Nat.le_of_ble_eq_true rfl)⟩) hP hD hS hA hK hE 0 7 rfl rfl rfl hl.1 rfl (Nat.le_of_ble_eq_true rfl) dX7_live_32 ⟨Nat.le_refl _, Nat.le_refl _⟩ (fun _ _ _ H locs hP hD hS _ => ?_)
      refine W.eq (g2 := F0 m 35 ls [.int (-1)]) rfl ?_
      have e_ : mf_live m_drawn m_ranSteps m_isTold m_at m_beside m_loops m_ran m_told0 Wd R nr nc nn seed = ((-1), 6, m_drawn, m_ranSteps, m_isTold, m_at, m_beside, m_loops, m_ran, m_told0) := by rw [mf_live, if_pos c_1, if_pos c_2]
      exact zr_mi hx hb hr hlocks hP hD hS dX7_live_35 (by rw [e_])  (by rw [e_]) (by rw [e_]; exact ⟨hV, hL⟩)
  · refine lv_aload_n hx hb dX7_live_12 rfl (lv_at hl 0 rfl) ?_
    refine lv_iconst (v := 1) hx hb dX7_live_13 (by decide) ?_
    refine zr_muV (F := ()) (ff := fun _ => True) (rr := fun _ => some (.int (-1))) (w1 := fun _ => (mW G ad 1 m_top m_bottom m_taped m_size m_token m_from m_end m_value m_faultKind m_faultPlace m_faults m_seen m_depth m_counted m_lead m_round m_tried m_triedMany m_drawn m_ranSteps m_isTold m_marks m_at m_names m_sort m_trayMany m_trays m_tape m_text m_opened m_beside m_then m_ways m_further m_canBe m_loops m_ran m_told0)) ⟨hx, hb, hml, hown, hts⟩ (mt_mf_refuse l G ad m_status m_top m_bottom m_taped m_size m_token m_from m_end m_value m_faultKind m_faultPlace m_faults m_seen m_depth m_counted m_lead m_round m_tried m_triedMany m_drawn m_ranSteps m_isTold m_marks m_at m_names m_sort m_trayMany m_trays m_tape m_text m_opened m_beside m_then m_ways m_further m_canBe m_loops m_ran m_told0 1 H.size) (cwV 1 hts (lw_V q1666 q1668 qs66 q144 q1669) rfl rfl rfl hd_X7_refuse ⟨(Nat.le_of_ble_eq_true rfl), (Nat.le_of_ble_eq_true rfl)⟩) hP hD hS hA hK hE 0 7 rfl rfl rfl hl.1 rfl (Nat.le_of_ble_eq_true rfl) dX7_live_14 ⟨Nat.le_refl _, Nat.le_refl _⟩ (fun _ _ _ H locs hP hD hS _ => ?_)
    refine W.eq (g2 := F0 m 17 ls [.int (-1)]) rfl ?_
    have e_ : mf_live m_drawn m_ranSteps m_isTold m_at m_beside m_loops m_ran m_told0 Wd R nr nc nn seed = ((-1), 1, m_drawn, m_ranSteps, m_isTold, m_at, m_beside, m_loops, m_ran, m_told0) := by rw [mf_live, if_neg c_1]
    exact zr_mi hx hb hr hlocks hP hD hS dX7_live_17 (by rw [e_])  (by rw [e_]) (by rw [e_]; exact ⟨hV, hL⟩)
def mf_lived (m_isTold : Bool) (m_told0 : Nat → Int32) (what : Int32) : Int32 × Int32 :=
  (if what < 0 then
    ((-1), 1)
  else
    (if what ≤ 4 then
      (if m_isTold = true then
        (m_told0 what.toNatClampNeg, 0)
      else
        ((-1), 6))
    else
      ((-1), 1)))
theorem hd_X7_lived : yX7_lived.cls = RX7 ∧ yX7_lived.cls ≠ "java/lang/invoke/MethodHandle" ∧ yX7_lived.cls ≠ "java/lang/invoke/VarHandle" ∧ (parseMethodDescriptor yX7_lived.desc).map (fun d => d.parameters.length) = some 1 := by decide +kernel
set_option maxHeartbeats 4000000 in
set_option maxRecDepth 100000 in
theorem mt_mf_lived (l : Launch) (G : zG) (ad : Nat → Nat) (m_status : Int32) (m_top : Int64) (m_bottom : Int64) (m_taped : Int32) (m_size : Int32) (m_token : Int32) (m_from : Int32) (m_end : Int32) (m_value : Int32) (m_faultKind : Int32) (m_faultPlace : Int32) (m_faults : Int32) (m_seen : Int32) (m_depth : Int32) (m_counted : Int32) (m_lead : Int32) (m_round : Int32) (m_tried : Int32) (m_triedMany : Int32) (m_drawn : Int32) (m_ranSteps : Int32) (m_isTold : Bool) (m_marks : Int32) (m_at : Nat → Int32) (m_names : Nat → Int64) (m_sort : Nat → Int32) (m_trayMany : Nat → Int32) (m_trays : Nat → Int64) (m_tape : Nat → Int32) (m_text : Nat → Int32) (m_opened : Nat → Int32) (m_beside : Nat → Int32) (m_then : Nat → Int32) (m_ways : Nat → Int64) (m_further : Nat → Int64) (m_canBe : Nat → Int32) (m_loops : Nat → Int32) (m_ran : Nat → Int32) (m_told0 : Nat → Int32) (what : Int32) (sz : Nat) : Met l yX7_lived (ws_ yX7_lived cX7_lived 2 (some .int)) (zR 2 0 0) (zPm G sz [.ref (ad 0), .int what] (mW G ad m_status m_top m_bottom m_taped m_size m_token m_from m_end m_value m_faultKind m_faultPlace m_faults m_seen m_depth m_counted m_lead m_round m_tried m_triedMany m_drawn m_ranSteps m_isTold m_marks m_at m_names m_sort m_trayMany m_trays m_tape m_text m_opened m_beside m_then m_ways m_further m_canBe m_loops m_ran m_told0)) (zQm G (True) (some (.int ((mf_lived m_isTold m_told0 what).1))) (mW G ad ((mf_lived m_isTold m_told0 what).2) m_top m_bottom m_taped m_size m_token m_from m_end m_value m_faultKind m_faultPlace m_faults m_seen m_depth m_counted m_lead m_round m_tried m_triedMany m_drawn m_ranSteps m_isTold m_marks m_at m_names m_sort m_trayMany m_trays m_tape m_text m_opened m_beside m_then m_ways m_further m_canBe m_loops m_ran m_told0) (va_A (mW G ad m_status m_top m_bottom m_taped m_size m_token m_from m_end m_value m_faultKind m_faultPlace m_faults m_seen m_depth m_counted m_lead m_round m_tried m_triedMany m_drawn m_ranSteps m_isTold m_marks m_at m_names m_sort m_trayMany m_trays m_tape m_text m_opened m_beside m_then m_ways m_further m_canBe m_loops m_ran m_told0) sz)) 0 0 (va_A (mW G ad m_status m_top m_bottom m_taped m_size m_token m_from m_end m_value m_faultKind m_faultPlace m_faults m_seen m_depth m_counted m_lead m_round m_tried m_triedMany m_drawn m_ranSteps m_isTold m_marks m_at m_names m_sort m_trayMany m_trays m_tape m_text m_opened m_beside m_then m_ways m_further m_canBe m_loops m_ran m_told0) sz) := by
  refine zr_entM (by decide) (Nat.le_of_ble_eq_true rfl) ?_
  intro p e s m below meth c ⟨hx, hb, hr, hml, hown, hts, hlocks, hnm⟩ ls hl hP hK A hE hA hD hS
  have hown : s.vm.findClass RX7 = some m.cls := hown
  have hl : lv_has ls 2 [(0, .ref (ad 0)), (1, .int what)] := hl
  obtain ⟨H, hH⟩ : ∃ H, H = s.heap := ⟨_, rfl⟩
  obtain ⟨locs, hlo⟩ : ∃ L : List Loc, L = [] := ⟨_, rfl⟩
  rw [← hH] at hP
  have hS : va_S A s.heap H locs := by rw [hH, hlo]; exact va_S.rf
  have hgo : W p l e (zR 2 0 0) s m ([.ref (ad 0), .int what] : List Value).toArray below meth c H locs 0 0 (MQ below (zQm G (True) (some (.int ((mf_lived m_isTold m_told0 what).1))) (mW G ad ((mf_lived m_isTold m_told0 what).2) m_top m_bottom m_taped m_size m_token m_from m_end m_value m_faultKind m_faultPlace m_faults m_seen m_depth m_counted m_lead m_round m_tried m_triedMany m_drawn m_ranSteps m_isTold m_marks m_at m_names m_sort m_trayMany m_trays m_tape m_text m_opened m_beside m_then m_ways m_further m_canBe m_loops m_ran m_told0) A) ([.ref (ad 0), .int what] : List Value).toArray s 0 0 A) (F0 m 0 ls []) := ?_
  · rw [hH, hlo] at hgo; exact hgo
  clear hH hlo
  refine lv_iload_n hx hb dX7_lived_0 rfl (lv_at hl 1 rfl) ?_
  refine lv_if_lt (tgt := 9) hx hb dX7_lived_1 (by decide) (fun c_1 => ?_) (fun c_1 => ?_)
  · refine lv_aload_n hx hb dX7_lived_9 rfl (lv_at hl 0 rfl) ?_
    refine lv_iconst (v := 1) hx hb dX7_lived_10 (by decide) ?_
    refine zr_muV (F := ()) (ff := fun _ => True) (rr := fun _ => some (.int (-1))) (w1 := fun _ => (mW G ad 1 m_top m_bottom m_taped m_size m_token m_from m_end m_value m_faultKind m_faultPlace m_faults m_seen m_depth m_counted m_lead m_round m_tried m_triedMany m_drawn m_ranSteps m_isTold m_marks m_at m_names m_sort m_trayMany m_trays m_tape m_text m_opened m_beside m_then m_ways m_further m_canBe m_loops m_ran m_told0)) ⟨hx, hb, hml, hown, hts⟩ (mt_mf_refuse l G ad m_status m_top m_bottom m_taped m_size m_token m_from m_end m_value m_faultKind m_faultPlace m_faults m_seen m_depth m_counted m_lead m_round m_tried m_triedMany m_drawn m_ranSteps m_isTold m_marks m_at m_names m_sort m_trayMany m_trays m_tape m_text m_opened m_beside m_then m_ways m_further m_canBe m_loops m_ran m_told0 1 H.size) (cwV 1 hts (lw_V q1666 q1668 qs66 q144 q1669) rfl rfl rfl hd_X7_refuse ⟨(Nat.le_of_ble_eq_true rfl), (Nat.le_of_ble_eq_true rfl)⟩) hP hD hS hA hK hE 0 7 rfl rfl rfl hl.1 rfl (Nat.le_of_ble_eq_true rfl) dX7_lived_11 ⟨Nat.le_refl _, Nat.le_refl _⟩ (fun _ _ _ H locs hP hD hS _ => ?_)
    refine W.eq (g2 := F0 m 14 ls [.int (-1)]) rfl ?_
    refine lv_goto (tgt := 43) hx hb dX7_lived_14 (by decide) ?_
    have e_ : mf_lived m_isTold m_told0 what = ((-1), 1) := by rw [mf_lived, if_pos c_1]
    exact zr_mi hx hb hr hlocks hP hD hS dX7_lived_43 (by rw [e_])  (by rw [e_]) trivial
  · have hw0 := c_1
    refine lv_iload_n hx hb dX7_lived_4 rfl (lv_at hl 1 rfl) ?_
    refine lv_iconst (v := 4) hx hb dX7_lived_5 (by decide) ?_
    refine lv_icmp_le (tgt := 17) hx hb dX7_lived_6 (by decide) (fun c_3 => ?_) (fun c_3 => ?_)
    · have hw1 := z_le 4 (by decide) hw0 c_3
      refine lv_aload_n hx hb dX7_lived_17 rfl (lv_at hl 0 rfl) ?_
      refine va_get (D := G.1) (ci := 7) (v := .int (zb m_isTold)) (C := RX7) (T := TX7) (N := 39) hx hb hts in_X7 hown hK.1 hP 0 rfl rfl 37 (Nat.le_of_ble_eq_true rfl) (hts _ q1504) (fun _ h => h) rfl dX7_lived_18 ?_
      refine zr_eqB m_isTold (tgt := 37) hx hb dX7_lived_21 (by decide) (fun c_4 => ?_) (fun c_4 => ?_)
      · refine lv_aload_n hx hb dX7_lived_37 rfl (lv_at hl 0 rfl) ?_
        refine lv_bipush (v := 6) hx hb dX7_lived_38 (by decide) ?_
        refine zr_muV (F := ()) (ff := fun _ => True) (rr := fun _ => some (.int (-1))) (w1 := fun _ => (mW G ad 6 m_top m_bottom m_taped m_size m_token m_from m_end m_value m_faultKind m_faultPlace m_faults m_seen m_depth m_counted m_lead m_round m_tried m_triedMany m_drawn m_ranSteps m_isTold m_marks m_at m_names m_sort m_trayMany m_trays m_tape m_text m_opened m_beside m_then m_ways m_further m_canBe m_loops m_ran m_told0)) ⟨hx, hb, hml, hown, hts⟩ (mt_mf_refuse l G ad m_status m_top m_bottom m_taped m_size m_token m_from m_end m_value m_faultKind m_faultPlace m_faults m_seen m_depth m_counted m_lead m_round m_tried m_triedMany m_drawn m_ranSteps m_isTold m_marks m_at m_names m_sort m_trayMany m_trays m_tape m_text m_opened m_beside m_then m_ways m_further m_canBe m_loops m_ran m_told0 6 H.size) (cwV 1 hts (lw_V q1666 q1668 qs66 q144 q1669) rfl rfl rfl hd_X7_refuse ⟨(Nat.le_of_ble_eq_true rfl), (Nat.le_of_ble_eq_true rfl)⟩) hP hD hS hA hK hE 0 7 rfl rfl rfl hl.1 rfl (Nat.le_of_ble_eq_true rfl) dX7_lived_40 ⟨Nat.le_refl _, Nat.le_refl _⟩ (fun _ _ _ H locs hP hD hS _ => ?_)
        refine W.eq (g2 := F0 m 43 ls [.int (-1)]) rfl ?_
        have e_ : mf_lived m_isTold m_told0 what = ((-1), 6) := by rw [mf_lived, if_neg c_1, if_pos c_3, if_neg c_4]
        exact zr_mi hx hb hr hlocks hP hD hS dX7_lived_43 (by rw [e_])  (by rw [e_]) trivial
      · refine lv_aload_n hx hb dX7_lived_24 rfl (lv_at hl 0 rfl) ?_
        refine lv_aload_n hx hb dX7_lived_25 rfl (lv_at hl 0 rfl) ?_
        refine va_get (D := G.1) (ci := 7) (v := .ref (ad 16)) (C := RX7) (T := TX7) (N := 39) hx hb hts in_X7 hown hK.1 hP 0 rfl rfl 36 (Nat.le_of_ble_eq_true rfl) (hts _ q1503) (fun _ h => h) rfl dX7_lived_26 ?_
        refine lv_iload_n hx hb dX7_lived_29 rfl (lv_at hl 1 rfl) ?_
        refine zr_iald what.toNatClampNeg (v := m_told0 what.toNatClampNeg) hx hb hK hP 16 rfl rfl (Nat.le_of_ble_eq_true rfl) (z_nn hw0) (by omega) rfl dX7_lived_30 ?_
        refine zr_muV (F := ()) (ff := fun _ => True) (rr := fun _ => some (.int (m_told0 what.toNatClampNeg))) (w1 := fun _ => (mW G ad 0 m_top m_bottom m_taped m_size m_token m_from m_end m_value m_faultKind m_faultPlace m_faults m_seen m_depth m_counted m_lead m_round m_tried m_triedMany m_drawn m_ranSteps m_isTold m_marks m_at m_names m_sort m_trayMany m_trays m_tape m_text m_opened m_beside m_then m_ways m_further m_canBe m_loops m_ran m_told0)) ⟨hx, hb, hml, hown, hts⟩ (mt_mf_gives l G ad m_status m_top m_bottom m_taped m_size m_token m_from m_end m_value m_faultKind m_faultPlace m_faults m_seen m_depth m_counted m_lead m_round m_tried m_triedMany m_drawn m_ranSteps m_isTold m_marks m_at m_names m_sort m_trayMany m_trays m_tape m_text m_opened m_beside m_then m_ways m_further m_canBe m_loops m_ran m_told0 (m_told0 what.toNatClampNeg) H.size) (cwV 1 hts (lw_V q1751 q1753 qs85 q144 q1754) rfl rfl rfl hd_X7_gives ⟨(Nat.le_of_ble_eq_true rfl), (Nat.le_of_ble_eq_true rfl)⟩) hP hD hS hA hK hE 0 7 rfl rfl rfl hl.1 rfl (Nat.le_of_ble_eq_true rfl) dX7_lived_31 ⟨Nat.le_refl _, Nat.le_refl _⟩ (fun _ _ _ H locs hP hD hS _ => ?_)
        refine W.eq (g2 := F0 m 34 ls [.int (m_told0 what.toNatClampNeg)]) rfl ?_
        refine lv_goto (tgt := 43) hx hb dX7_lived_34 (by decide) ?_
        have e_ : mf_lived m_isTold m_told0 what = (m_told0 what.toNatClampNeg, 0) := by rw [mf_lived, if_neg c_1, if_pos c_3, if_pos c_4]
        exact zr_mi hx hb hr hlocks hP hD hS dX7_lived_43 (by rw [e_])  (by rw [e_]) trivial
    · refine lv_aload_n hx hb dX7_lived_9 rfl (lv_at hl 0 rfl) ?_
      refine lv_iconst (v := 1) hx hb dX7_lived_10 (by decide) ?_
      refine zr_muV (F := ()) (ff := fun _ => True) (rr := fun _ => some (.int (-1))) (w1 := fun _ => (mW G ad 1 m_top m_bottom m_taped m_size m_token m_from m_end m_value m_faultKind m_faultPlace m_faults m_seen m_depth m_counted m_lead m_round m_tried m_triedMany m_drawn m_ranSteps m_isTold m_marks m_at m_names m_sort m_trayMany m_trays m_tape m_text m_opened m_beside m_then m_ways m_further m_canBe m_loops m_ran m_told0)) ⟨hx, hb, hml, hown, hts⟩ (mt_mf_refuse l G ad m_status m_top m_bottom m_taped m_size m_token m_from m_end m_value m_faultKind m_faultPlace m_faults m_seen m_depth m_counted m_lead m_round m_tried m_triedMany m_drawn m_ranSteps m_isTold m_marks m_at m_names m_sort m_trayMany m_trays m_tape m_text m_opened m_beside m_then m_ways m_further m_canBe m_loops m_ran m_told0 1 H.size) (cwV 1 hts (lw_V q1666 q1668 qs66 q144 q1669) rfl rfl rfl hd_X7_refuse ⟨(Nat.le_of_ble_eq_true rfl), (Nat.le_of_ble_eq_true rfl)⟩) hP hD hS hA hK hE 0 7 rfl rfl rfl hl.1 rfl (Nat.le_of_ble_eq_true rfl) dX7_lived_11 ⟨Nat.le_refl _, Nat.le_refl _⟩ (fun _ _ _ H locs hP hD hS _ => ?_)
      refine W.eq (g2 := F0 m 14 ls [.int (-1)]) rfl ?_
      refine lv_goto (tgt := 43) hx hb dX7_lived_14 (by decide) ?_
      have e_ : mf_lived m_isTold m_told0 what = ((-1), 1) := by rw [mf_lived, if_neg c_1, if_neg c_3]
      exact zr_mi hx hb hr hlocks hP hD hS dX7_lived_43 (by rw [e_])  (by rw [e_]) trivial
def mf_copies_B2 (cf : Nat) (ct : Nat) (k_1 : Nat) (s_1 : (Nat → Int32)) : (Nat → Int32) :=
  upd s_1 (410 * ct + k_1) (s_1 (410 * cf + k_1))
def mf_copies_L2 (cf : Nat) (ct : Nat) (s_1 : (Nat → Int32)) : (Nat → Int32) := zf (mf_copies_B2 cf ct) s_1 410
def mf_copies_B41 (cf : Nat) (ct : Nat) (k_2 : Nat) (s_2 : (Nat → Int64)) : (Nat → Int64) :=
  vp_updL s_2 (10 * ct + k_2) (s_2 (10 * cf + k_2))
def mf_copies_L41 (cf : Nat) (ct : Nat) (s_2 : (Nat → Int64)) : (Nat → Int64) := zf (mf_copies_B41 cf ct) s_2 10
def mf_copies (m_at : Nat → Int32) (m_names : Nat → Int64) (cf : Nat) (ct : Nat) : (Nat → Int32) × (Nat → Int64) :=
  zlet (mf_copies_L2 cf ct m_at) (fun s_1 =>
  zlet (mf_copies_L41 cf ct m_names) (fun s_2 =>
  (s_1, s_2)))
theorem hd_X7_copies : yX7_copies.cls = RX7 ∧ yX7_copies.cls ≠ "java/lang/invoke/MethodHandle" ∧ yX7_copies.cls ≠ "java/lang/invoke/VarHandle" ∧ (parseMethodDescriptor yX7_copies.desc).map (fun d => d.parameters.length) = some 2 := by decide +kernel
set_option maxHeartbeats 4000000 in
set_option maxRecDepth 100000 in
theorem mt_mf_copies (l : Launch) (G : zG) (ad : Nat → Nat) (m_status : Int32) (m_top : Int64) (m_bottom : Int64) (m_taped : Int32) (m_size : Int32) (m_token : Int32) (m_from : Int32) (m_end : Int32) (m_value : Int32) (m_faultKind : Int32) (m_faultPlace : Int32) (m_faults : Int32) (m_seen : Int32) (m_depth : Int32) (m_counted : Int32) (m_lead : Int32) (m_round : Int32) (m_tried : Int32) (m_triedMany : Int32) (m_drawn : Int32) (m_ranSteps : Int32) (m_isTold : Bool) (m_marks : Int32) (m_at : Nat → Int32) (m_names : Nat → Int64) (m_sort : Nat → Int32) (m_trayMany : Nat → Int32) (m_trays : Nat → Int64) (m_tape : Nat → Int32) (m_text : Nat → Int32) (m_opened : Nat → Int32) (m_beside : Nat → Int32) (m_then : Nat → Int32) (m_ways : Nat → Int64) (m_further : Nat → Int64) (m_canBe : Nat → Int32) (m_loops : Nat → Int32) (m_ran : Nat → Int32) (m_told0 : Nat → Int32) (cf : Nat) (ct : Nat) (hcf : cf ≤ 3) (hct : ct ≤ 3) (sz : Nat) : Met l yX7_copies (ws_ yX7_copies cX7_copies 4 none) (zR 1 0 0) (zPm G sz [.ref (ad 0), .int (nI cf), .int (nI ct)] (mW G ad m_status m_top m_bottom m_taped m_size m_token m_from m_end m_value m_faultKind m_faultPlace m_faults m_seen m_depth m_counted m_lead m_round m_tried m_triedMany m_drawn m_ranSteps m_isTold m_marks m_at m_names m_sort m_trayMany m_trays m_tape m_text m_opened m_beside m_then m_ways m_further m_canBe m_loops m_ran m_told0)) (zQm G (True) none (mW G ad m_status m_top m_bottom m_taped m_size m_token m_from m_end m_value m_faultKind m_faultPlace m_faults m_seen m_depth m_counted m_lead m_round m_tried m_triedMany m_drawn m_ranSteps m_isTold m_marks ((mf_copies m_at m_names cf ct).1) ((mf_copies m_at m_names cf ct).2) m_sort m_trayMany m_trays m_tape m_text m_opened m_beside m_then m_ways m_further m_canBe m_loops m_ran m_told0) (va_A (mW G ad m_status m_top m_bottom m_taped m_size m_token m_from m_end m_value m_faultKind m_faultPlace m_faults m_seen m_depth m_counted m_lead m_round m_tried m_triedMany m_drawn m_ranSteps m_isTold m_marks m_at m_names m_sort m_trayMany m_trays m_tape m_text m_opened m_beside m_then m_ways m_further m_canBe m_loops m_ran m_told0) sz)) 0 0 (va_A (mW G ad m_status m_top m_bottom m_taped m_size m_token m_from m_end m_value m_faultKind m_faultPlace m_faults m_seen m_depth m_counted m_lead m_round m_tried m_triedMany m_drawn m_ranSteps m_isTold m_marks m_at m_names m_sort m_trayMany m_trays m_tape m_text m_opened m_beside m_then m_ways m_further m_canBe m_loops m_ran m_told0) sz) := by
  refine zr_entM (by decide) (Nat.le_of_ble_eq_true rfl) ?_
  intro p e s m below meth c ⟨hx, hb, hr, hml, hown, hts, hlocks, hnm⟩ ls hl hP hK A hE hA hD hS
  have hown : s.vm.findClass RX7 = some m.cls := hown
  have hl : lv_has ls 4 [(0, .ref (ad 0)), (1, .int (nI cf)), (2, .int (nI ct))] := hl
  obtain ⟨H, hH⟩ : ∃ H, H = s.heap := ⟨_, rfl⟩
  obtain ⟨locs, hlo⟩ : ∃ L : List Loc, L = [] := ⟨_, rfl⟩
  rw [← hH] at hP
  have hS : va_S A s.heap H locs := by rw [hH, hlo]; exact va_S.rf
  have hgo : W p l e (zR 1 0 0) s m ([.ref (ad 0), .int (nI cf), .int (nI ct)] : List Value).toArray below meth c H locs 0 0 (MQ below (zQm G (True) none (mW G ad m_status m_top m_bottom m_taped m_size m_token m_from m_end m_value m_faultKind m_faultPlace m_faults m_seen m_depth m_counted m_lead m_round m_tried m_triedMany m_drawn m_ranSteps m_isTold m_marks ((mf_copies m_at m_names cf ct).1) ((mf_copies m_at m_names cf ct).2) m_sort m_trayMany m_trays m_tape m_text m_opened m_beside m_then m_ways m_further m_canBe m_loops m_ran m_told0) A) ([.ref (ad 0), .int (nI cf), .int (nI ct)] : List Value).toArray s 0 0 A) (F0 m 0 ls []) := ?_
  · rw [hH, hlo] at hgo; exact hgo
  clear hH hlo
  refine lv_iconst (v := 0) hx hb dX7_copies_0 (by decide) ?_
  refine lv_istore_n (lv' := [(3, .int 0), (0, .ref (ad 0)), (1, .int (nI cf)), (2, .int (nI ct))]) hx hb dX7_copies_1 rfl hl (by decide) rfl (fun ls hl => ?_)
  have hlp_1 : ∀ (n k_1 : Nat) (s_1 : (Nat → Int32)), k_1 ≤ 410 → 410 < k_1 + n → zf (mf_copies_B2 cf ct) m_at k_1 = s_1 → ∀ (H : Heap) (locs : List Loc), va_P G.1 zcl (mW G ad m_status m_top m_bottom m_taped m_size m_token m_from m_end m_value m_faultKind m_faultPlace m_faults m_seen m_depth m_counted m_lead m_round m_tried m_triedMany m_drawn m_ranSteps m_isTold m_marks s_1 m_names m_sort m_trayMany m_trays m_tape m_text m_opened m_beside m_then m_ways m_further m_canBe m_loops m_ran m_told0) H → va_D A (mW G ad m_status m_top m_bottom m_taped m_size m_token m_from m_end m_value m_faultKind m_faultPlace m_faults m_seen m_depth m_counted m_lead m_round m_tried m_triedMany m_drawn m_ranSteps m_isTold m_marks s_1 m_names m_sort m_trayMany m_trays m_tape m_text m_opened m_beside m_then m_ways m_further m_canBe m_loops m_ran m_told0) → va_S A s.heap H locs → ∀ ls : Array Slot, lv_has ls 4 [(3, .int (nI k_1)), (0, .ref (ad 0)), (1, .int (nI cf)), (2, .int (nI ct))] → W p l e (zR 1 0 0) s m ([.ref (ad 0), .int (nI cf), .int (nI ct)] : List Value).toArray below meth c H locs 0 0 (MQ below (zQm G (True) none (mW G ad m_status m_top m_bottom m_taped m_size m_token m_from m_end m_value m_faultKind m_faultPlace m_faults m_seen m_depth m_counted m_lead m_round m_tried m_triedMany m_drawn m_ranSteps m_isTold m_marks ((mf_copies m_at m_names cf ct).1) ((mf_copies m_at m_names cf ct).2) m_sort m_trayMany m_trays m_tape m_text m_opened m_beside m_then m_ways m_further m_canBe m_loops m_ran m_told0) A) ([.ref (ad 0), .int (nI cf), .int (nI ct)] : List Value).toArray s 0 0 A) (F0 m 2 ls []) := by
    intro n
    induction n with
    | zero => intro k_1 s_1 h1 h2; exact absurd h2 (by omega)
    | succ n ih_1 =>
      intro k_1 s_1 hk_1 hn_1 hst_1 H locs hP hD hS ls hl
      refine lv_iload_n hx hb dX7_copies_2 rfl (lv_at hl 0 rfl) ?_
      refine lv_sipush (v := 410) hx hb dX7_copies_3 (by decide) ?_
      refine zr_ge k_1 410 (by omega) (by decide) (tgt := 39) hx hb dX7_copies_6 (by decide) (fun c_1 => ?_) (fun c_1 => ?_)
      · have ek_1 : k_1 = 410 := Nat.le_antisymm hk_1 c_1
        have hs_1 : mf_copies_L2 cf ct m_at = s_1 := by rw [ek_1] at hst_1; exact hst_1
        have hl := lv_sub hl (l' := _) [1, 2, 3] rfl
        refine lv_iconst (v := 0) hx hb dX7_copies_39 (by decide) ?_
        refine lv_istore_n (lv' := [(3, .int 0), (0, .ref (ad 0)), (1, .int (nI cf)), (2, .int (nI ct))]) hx hb dX7_copies_40 rfl hl (by decide) rfl (fun ls hl => ?_)
        have hlp_2 : ∀ (n k_2 : Nat) (s_2 : (Nat → Int64)), k_2 ≤ 10 → 10 < k_2 + n → zf (mf_copies_B41 cf ct) m_names k_2 = s_2 → ∀ (H : Heap) (locs : List Loc), va_P G.1 zcl (mW G ad m_status m_top m_bottom m_taped m_size m_token m_from m_end m_value m_faultKind m_faultPlace m_faults m_seen m_depth m_counted m_lead m_round m_tried m_triedMany m_drawn m_ranSteps m_isTold m_marks s_1 s_2 m_sort m_trayMany m_trays m_tape m_text m_opened m_beside m_then m_ways m_further m_canBe m_loops m_ran m_told0) H → va_D A (mW G ad m_status m_top m_bottom m_taped m_size m_token m_from m_end m_value m_faultKind m_faultPlace m_faults m_seen m_depth m_counted m_lead m_round m_tried m_triedMany m_drawn m_ranSteps m_isTold m_marks s_1 s_2 m_sort m_trayMany m_trays m_tape m_text m_opened m_beside m_then m_ways m_further m_canBe m_loops m_ran m_told0) → va_S A s.heap H locs → ∀ ls : Array Slot, lv_has ls 4 [(3, .int (nI k_2)), (0, .ref (ad 0)), (1, .int (nI cf)), (2, .int (nI ct))] → W p l e (zR 1 0 0) s m ([.ref (ad 0), .int (nI cf), .int (nI ct)] : List Value).toArray below meth c H locs 0 0 (MQ below (zQm G (True) none (mW G ad m_status m_top m_bottom m_taped m_size m_token m_from m_end m_value m_faultKind m_faultPlace m_faults m_seen m_depth m_counted m_lead m_round m_tried m_triedMany m_drawn m_ranSteps m_isTold m_marks ((mf_copies m_at m_names cf ct).1) ((mf_copies m_at m_names cf ct).2) m_sort m_trayMany m_trays m_tape m_text m_opened m_beside m_then m_ways m_further m_canBe m_loops m_ran m_told0) A) ([.ref (ad 0), .int (nI cf), .int (nI ct)] : List Value).toArray s 0 0 A) (F0 m 41 ls []) := by
          intro n
          induction n with
          | zero => intro k_2 s_2 h1 h2; exact absurd h2 (by omega)
          | succ n ih_2 =>
            intro k_2 s_2 hk_2 hn_2 hst_2 H locs hP hD hS ls hl
            refine lv_iload_n hx hb dX7_copies_41 rfl (lv_at hl 0 rfl) ?_
            refine lv_bipush (v := 10) hx hb dX7_copies_42 (by decide) ?_
            refine zr_ge k_2 10 (by omega) (by decide) (tgt := 75) hx hb dX7_copies_44 (by decide) (fun c_2 => ?_) (fun c_2 => ?_)
            · have ek_2 : k_2 = 10 := Nat.le_antisymm hk_2 c_2
              have hs_2 : mf_copies_L41 cf ct m_names = s_2 := by rw [ek_2] at hst_2; exact hst_2
              have hl := lv_sub hl (l' := _) [1, 2, 3] rfl
              have e_ : mf_copies m_at m_names cf ct = (s_1, s_2) := by rw [mf_copies, zlet_eq hs_1, zlet_eq hs_2]
              exact zr_mv hx hb hr hlocks hP hD hS dX7_copies_75 rfl (by rw [e_]) trivial
            · have hlt_2 : k_2 < 10 := Nat.lt_of_not_le c_2
              refine lv_aload_n hx hb dX7_copies_47 rfl (lv_at hl 1 rfl) ?_
              refine va_get (D := G.1) (ci := 7) (v := .ref (ad 2)) (C := RX7) (T := TX7) (N := 39) hx hb hts in_X7 hown hK.1 hP 0 rfl rfl 1 (Nat.le_of_ble_eq_true rfl) (hts _ q1468) (fun _ h => h) rfl dX7_copies_48 ?_
              refine lv_bipush (v := 10) hx hb dX7_copies_51 (by decide) ?_
              refine lv_iload_n hx hb dX7_copies_53 rfl (lv_at hl 3 rfl) ?_
              refine zr_imulN 10 ct hx hb dX7_copies_54 ?_
              refine lv_iload_n hx hb dX7_copies_55 rfl (lv_at hl 0 rfl) ?_
              refine zr_iaddN (10 * ct) k_2 hx hb dX7_copies_56 ?_
              refine zr_val (v' := .int (nI (10 * ct + k_2))) (by rfl) ?_
              refine lv_aload_n hx hb dX7_copies_57 rfl (lv_at hl 1 rfl) ?_
              refine va_get (D := G.1) (ci := 7) (v := .ref (ad 2)) (C := RX7) (T := TX7) (N := 39) hx hb hts in_X7 hown hK.1 hP 0 rfl rfl 1 (Nat.le_of_ble_eq_true rfl) (hts _ q1468) (fun _ h => h) rfl dX7_copies_58 ?_
              refine lv_bipush (v := 10) hx hb dX7_copies_61 (by decide) ?_
              refine lv_iload_n hx hb dX7_copies_63 rfl (lv_at hl 2 rfl) ?_
              refine zr_imulN 10 cf hx hb dX7_copies_64 ?_
              refine lv_iload_n hx hb dX7_copies_65 rfl (lv_at hl 0 rfl) ?_
              refine zr_iaddN (10 * cf) k_2 hx hb dX7_copies_66 ?_
              refine zr_val (v' := .int (nI (10 * cf + k_2))) (by rfl) ?_
              refine zr_lald (10 * cf + k_2) (v := s_2 (10 * cf + k_2)) hx hb hK hP 2 rfl rfl (Nat.le_of_ble_eq_true rfl) rfl (by omega) rfl dX7_copies_67 ?_
              refine zr_last (10 * ct + k_2) (ws' := (mW G ad m_status m_top m_bottom m_taped m_size m_token m_from m_end m_value m_faultKind m_faultPlace m_faults m_seen m_depth m_counted m_lead m_round m_tried m_triedMany m_drawn m_ranSteps m_isTold m_marks s_1 (vp_updL s_2 (10 * ct + k_2) (s_2 (10 * cf + k_2))) m_sort m_trayMany m_trays m_tape m_text m_opened m_beside m_then m_ways m_further m_canBe m_loops m_ran m_told0)) hx hb hK hP hD hS 2 rfl rfl (Nat.le_of_ble_eq_true rfl) rfl (by omega) rfl dX7_copies_68 (fun H locs hP hD hS => ?_)
              refine lv_iinc (v := nI (k_2 + 1)) (lv' := [(3, .int (nI (k_2 + 1))), (0, .ref (ad 0)), (1, .int (nI cf)), (2, .int (nI ct))]) hx hb dX7_copies_69 hl (k := 0) rfl (nI_add k_2 1) (by decide) rfl (fun ls hl => ?_)
              refine lv_goto (tgt := 41) hx hb dX7_copies_72 (by decide) ?_
              exact ih_2 (k_2 + 1) (vp_updL s_2 (10 * ct + k_2) (s_2 (10 * cf + k_2))) hlt_2 (by omega) (zf_s hst_2 (by rw [mf_copies_B41])) H locs hP hD hS ls (lv_sub hl [0, 1, 2, 3] rfl)
        exact hlp_2 (10 + 1) 0 m_names (Nat.zero_le _) (by omega) rfl H locs hP hD hS ls (lv_sub hl [0, 1, 2, 3] rfl)
      · have hlt_1 : k_1 < 410 := Nat.lt_of_not_le c_1
        refine lv_aload_n hx hb dX7_copies_9 rfl (lv_at hl 1 rfl) ?_
        refine va_get (D := G.1) (ci := 7) (v := .ref (ad 1)) (C := RX7) (T := TX7) (N := 39) hx hb hts in_X7 hown hK.1 hP 0 rfl rfl 0 (Nat.le_of_ble_eq_true rfl) (hts _ q1467) (fun _ h => h) rfl dX7_copies_10 ?_
        refine lv_sipush (v := 410) hx hb dX7_copies_13 (by decide) ?_
        refine lv_iload_n hx hb dX7_copies_16 rfl (lv_at hl 3 rfl) ?_
        refine zr_imulN 410 ct hx hb dX7_copies_17 ?_
        refine lv_iload_n hx hb dX7_copies_18 rfl (lv_at hl 0 rfl) ?_
        refine zr_iaddN (410 * ct) k_1 hx hb dX7_copies_19 ?_
        refine zr_val (v' := .int (nI (410 * ct + k_1))) (by rfl) ?_
        refine lv_aload_n hx hb dX7_copies_20 rfl (lv_at hl 1 rfl) ?_
        refine va_get (D := G.1) (ci := 7) (v := .ref (ad 1)) (C := RX7) (T := TX7) (N := 39) hx hb hts in_X7 hown hK.1 hP 0 rfl rfl 0 (Nat.le_of_ble_eq_true rfl) (hts _ q1467) (fun _ h => h) rfl dX7_copies_21 ?_
        refine lv_sipush (v := 410) hx hb dX7_copies_24 (by decide) ?_
        refine lv_iload_n hx hb dX7_copies_27 rfl (lv_at hl 2 rfl) ?_
        refine zr_imulN 410 cf hx hb dX7_copies_28 ?_
        refine lv_iload_n hx hb dX7_copies_29 rfl (lv_at hl 0 rfl) ?_
        refine zr_iaddN (410 * cf) k_1 hx hb dX7_copies_30 ?_
        refine zr_val (v' := .int (nI (410 * cf + k_1))) (by rfl) ?_
        refine zr_iald (410 * cf + k_1) (v := s_1 (410 * cf + k_1)) hx hb hK hP 1 rfl rfl (Nat.le_of_ble_eq_true rfl) rfl (by omega) rfl dX7_copies_31 ?_
        refine zr_iast (410 * ct + k_1) (ws' := (mW G ad m_status m_top m_bottom m_taped m_size m_token m_from m_end m_value m_faultKind m_faultPlace m_faults m_seen m_depth m_counted m_lead m_round m_tried m_triedMany m_drawn m_ranSteps m_isTold m_marks (upd s_1 (410 * ct + k_1) (s_1 (410 * cf + k_1))) m_names m_sort m_trayMany m_trays m_tape m_text m_opened m_beside m_then m_ways m_further m_canBe m_loops m_ran m_told0)) hx hb hK hP hD hS 1 rfl rfl (Nat.le_of_ble_eq_true rfl) rfl (by omega) rfl dX7_copies_32 (fun H locs hP hD hS => ?_)
        refine lv_iinc (v := nI (k_1 + 1)) (lv' := [(3, .int (nI (k_1 + 1))), (0, .ref (ad 0)), (1, .int (nI cf)), (2, .int (nI ct))]) hx hb dX7_copies_33 hl (k := 0) rfl (nI_add k_1 1) (by decide) rfl (fun ls hl => ?_)
        refine lv_goto (tgt := 2) hx hb dX7_copies_36 (by decide) ?_
        exact ih_1 (k_1 + 1) (upd s_1 (410 * ct + k_1) (s_1 (410 * cf + k_1))) hlt_1 (by omega) (zf_s hst_1 (by rw [mf_copies_B2])) H locs hP hD hS ls (lv_sub hl [0, 1, 2, 3] rfl)
  exact hlp_1 (410 + 1) 0 m_at (Nat.zero_le _) (by omega) rfl H locs hP hD hS ls (lv_sub hl [0, 1, 2, 3] rfl)
def mf_mark (mk : Nat) (m_at : Nat → Int32) (m_names : Nat → Int64) : Int32 × Int32 × Nat × (Nat → Int32) × (Nat → Int64) :=
  (if mk = 3 then
    ((-1), 4, mk, m_at, m_names)
  else
    zlet (mf_copies m_at m_names 0 (mk + 1)) (fun t_2 =>
    (nI (mk + 1), 0, mk + 1, t_2.1, t_2.2)))
theorem hd_X7_mark : yX7_mark.cls = RX7 ∧ yX7_mark.cls ≠ "java/lang/invoke/MethodHandle" ∧ yX7_mark.cls ≠ "java/lang/invoke/VarHandle" ∧ (parseMethodDescriptor yX7_mark.desc).map (fun d => d.parameters.length) = some 0 := by decide +kernel
set_option maxHeartbeats 4000000 in
set_option maxRecDepth 100000 in
theorem mt_mf_mark (l : Launch) (G : zG) (ad : Nat → Nat) (m_status : Int32) (m_top : Int64) (m_bottom : Int64) (m_taped : Int32) (m_size : Int32) (m_token : Int32) (m_from : Int32) (m_end : Int32) (m_value : Int32) (m_faultKind : Int32) (m_faultPlace : Int32) (m_faults : Int32) (m_seen : Int32) (m_depth : Int32) (m_counted : Int32) (m_lead : Int32) (m_round : Int32) (m_tried : Int32) (m_triedMany : Int32) (m_drawn : Int32) (m_ranSteps : Int32) (m_isTold : Bool) (mk : Nat) (m_at : Nat → Int32) (m_names : Nat → Int64) (m_sort : Nat → Int32) (m_trayMany : Nat → Int32) (m_trays : Nat → Int64) (m_tape : Nat → Int32) (m_text : Nat → Int32) (m_opened : Nat → Int32) (m_beside : Nat → Int32) (m_then : Nat → Int32) (m_ways : Nat → Int64) (m_further : Nat → Int64) (m_canBe : Nat → Int32) (m_loops : Nat → Int32) (m_ran : Nat → Int32) (m_told0 : Nat → Int32) (hmk : mk ≤ 3) (sz : Nat) : Met l yX7_mark (ws_ yX7_mark cX7_mark 1 (some .int)) (zR 2 0 0) (zPm G sz [.ref (ad 0)] (mW G ad m_status m_top m_bottom m_taped m_size m_token m_from m_end m_value m_faultKind m_faultPlace m_faults m_seen m_depth m_counted m_lead m_round m_tried m_triedMany m_drawn m_ranSteps m_isTold (nI mk) m_at m_names m_sort m_trayMany m_trays m_tape m_text m_opened m_beside m_then m_ways m_further m_canBe m_loops m_ran m_told0)) (zQm G (True) (some (.int ((mf_mark mk m_at m_names).1))) (mW G ad ((mf_mark mk m_at m_names).2.1) m_top m_bottom m_taped m_size m_token m_from m_end m_value m_faultKind m_faultPlace m_faults m_seen m_depth m_counted m_lead m_round m_tried m_triedMany m_drawn m_ranSteps m_isTold (nI ((mf_mark mk m_at m_names).2.2.1)) ((mf_mark mk m_at m_names).2.2.2.1) ((mf_mark mk m_at m_names).2.2.2.2) m_sort m_trayMany m_trays m_tape m_text m_opened m_beside m_then m_ways m_further m_canBe m_loops m_ran m_told0) (va_A (mW G ad m_status m_top m_bottom m_taped m_size m_token m_from m_end m_value m_faultKind m_faultPlace m_faults m_seen m_depth m_counted m_lead m_round m_tried m_triedMany m_drawn m_ranSteps m_isTold (nI mk) m_at m_names m_sort m_trayMany m_trays m_tape m_text m_opened m_beside m_then m_ways m_further m_canBe m_loops m_ran m_told0) sz)) 0 0 (va_A (mW G ad m_status m_top m_bottom m_taped m_size m_token m_from m_end m_value m_faultKind m_faultPlace m_faults m_seen m_depth m_counted m_lead m_round m_tried m_triedMany m_drawn m_ranSteps m_isTold (nI mk) m_at m_names m_sort m_trayMany m_trays m_tape m_text m_opened m_beside m_then m_ways m_further m_canBe m_loops m_ran m_told0) sz) := by
  refine zr_entM (by decide) (Nat.le_of_ble_eq_true rfl) ?_
  intro p e s m below meth c ⟨hx, hb, hr, hml, hown, hts, hlocks, hnm⟩ ls hl hP hK A hE hA hD hS
  have hown : s.vm.findClass RX7 = some m.cls := hown
  have hl : lv_has ls 1 [(0, .ref (ad 0))] := hl
  obtain ⟨H, hH⟩ : ∃ H, H = s.heap := ⟨_, rfl⟩
  obtain ⟨locs, hlo⟩ : ∃ L : List Loc, L = [] := ⟨_, rfl⟩
  rw [← hH] at hP
  have hS : va_S A s.heap H locs := by rw [hH, hlo]; exact va_S.rf
  have hgo : W p l e (zR 2 0 0) s m ([.ref (ad 0)] : List Value).toArray below meth c H locs 0 0 (MQ below (zQm G (True) (some (.int ((mf_mark mk m_at m_names).1))) (mW G ad ((mf_mark mk m_at m_names).2.1) m_top m_bottom m_taped m_size m_token m_from m_end m_value m_faultKind m_faultPlace m_faults m_seen m_depth m_counted m_lead m_round m_tried m_triedMany m_drawn m_ranSteps m_isTold (nI ((mf_mark mk m_at m_names).2.2.1)) ((mf_mark mk m_at m_names).2.2.2.1) ((mf_mark mk m_at m_names).2.2.2.2) m_sort m_trayMany m_trays m_tape m_text m_opened m_beside m_then m_ways m_further m_canBe m_loops m_ran m_told0) A) ([.ref (ad 0)] : List Value).toArray s 0 0 A) (F0 m 0 ls []) := ?_
  · rw [hH, hlo] at hgo; exact hgo
  clear hH hlo
  refine lv_aload_n hx hb dX7_mark_0 rfl (lv_at hl 0 rfl) ?_
  refine va_get (D := G.1) (ci := 7) (v := .int (nI mk)) (C := RX7) (T := TX7) (N := 39) hx hb hts in_X7 hown hK.1 hP 0 rfl rfl 38 (Nat.le_of_ble_eq_true rfl) (hts _ q1505) (fun _ h => h) rfl dX7_mark_1 ?_
  refine lv_iconst (v := 3) hx hb dX7_mark_4 (by decide) ?_
  refine zr_ne mk 3 (by omega) (by decide) (tgt := 14) hx hb dX7_mark_5 (by decide) (fun c_1 => ?_) (fun c_1 => ?_)
  · refine lv_aload_n hx hb dX7_mark_14 rfl (lv_at hl 0 rfl) ?_
    refine lv_dup hx hb dX7_mark_15 rfl ?_
    refine va_get (D := G.1) (ci := 7) (v := .int (nI mk)) (C := RX7) (T := TX7) (N := 39) hx hb hts in_X7 hown hK.1 hP 0 rfl rfl 38 (Nat.le_of_ble_eq_true rfl) (hts _ q1505) (fun _ h => h) rfl dX7_mark_16 ?_
    refine lv_iconst (v := 1) hx hb dX7_mark_19 (by decide) ?_
    refine zr_iaddN mk 1 hx hb dX7_mark_20 ?_
    refine va_put (D := G.1) (ci := 7) (v := .int (nI (mk + 1))) (ty := .int) (C := RX7) (T := TX7) (N := 39) hx hb hts in_X7 tyX7 tyX7_ok nmX7 hown hK.1 hP hD hS 0 rfl rfl 38 (Nat.le_of_ble_eq_true rfl) (hts _ q1505) (fun _ h => h) rfl (tyX7_ok 38 (Nat.le_of_ble_eq_true rfl)) rfl rfl (Nat.le_of_ble_eq_true rfl) dX7_mark_21 (fun H locs hP hD hS => ?_)
    have hP : va_P G.1 zcl (mW G ad m_status m_top m_bottom m_taped m_size m_token m_from m_end m_value m_faultKind m_faultPlace m_faults m_seen m_depth m_counted m_lead m_round m_tried m_triedMany m_drawn m_ranSteps m_isTold (nI (mk + 1)) m_at m_names m_sort m_trayMany m_trays m_tape m_text m_opened m_beside m_then m_ways m_further m_canBe m_loops m_ran m_told0) H := hP
    have hD : va_D A (mW G ad m_status m_top m_bottom m_taped m_size m_token m_from m_end m_value m_faultKind m_faultPlace m_faults m_seen m_depth m_counted m_lead m_round m_tried m_triedMany m_drawn m_ranSteps m_isTold (nI (mk + 1)) m_at m_names m_sort m_trayMany m_trays m_tape m_text m_opened m_beside m_then m_ways m_further m_canBe m_loops m_ran m_told0) := hD
    refine lv_aload_n hx hb dX7_mark_24 rfl (lv_at hl 0 rfl) ?_
    refine lv_iconst (v := 0) hx hb dX7_mark_25 (by decide) ?_
    refine lv_aload_n hx hb dX7_mark_26 rfl (lv_at hl 0 rfl) ?_
    refine va_get (D := G.1) (ci := 7) (v := .int (nI (mk + 1))) (C := RX7) (T := TX7) (N := 39) hx hb hts in_X7 hown hK.1 hP 0 rfl rfl 38 (Nat.le_of_ble_eq_true rfl) (hts _ q1505) (fun _ h => h) rfl dX7_mark_27 ?_
    refine zr_muV (F := mf_copies m_at m_names 0 (mk + 1)) (ff := fun t_2 => True) (rr := fun t_2 => none) (w1 := fun t_2 => (mW G ad m_status m_top m_bottom m_taped m_size m_token m_from m_end m_value m_faultKind m_faultPlace m_faults m_seen m_depth m_counted m_lead m_round m_tried m_triedMany m_drawn m_ranSteps m_isTold (nI (mk + 1)) t_2.1 t_2.2 m_sort m_trayMany m_trays m_tape m_text m_opened m_beside m_then m_ways m_further m_canBe m_loops m_ran m_told0)) ⟨hx, hb, hml, hown, hts⟩ (mt_mf_copies l G ad m_status m_top m_bottom m_taped m_size m_token m_from m_end m_value m_faultKind m_faultPlace m_faults m_seen m_depth m_counted m_lead m_round m_tried m_triedMany m_drawn m_ranSteps m_isTold (nI (mk + 1)) m_at m_names m_sort m_trayMany m_trays m_tape m_text m_opened m_beside m_then m_ways m_further m_canBe m_loops m_ran m_told0 0 (mk + 1) (by first | assumption | exact hcf | omega) (by first | assumption | exact hct | omega) H.size) (cwV 2 hts (lw_V q2148 q2150 qs133 q144 q2151) rfl rfl rfl hd_X7_copies ⟨(Nat.le_of_ble_eq_true rfl), (Nat.le_of_ble_eq_true rfl)⟩) hP hD hS hA hK hE 0 7 rfl rfl rfl hl.1 rfl (Nat.le_of_ble_eq_true rfl) dX7_mark_30 ⟨Nat.le_refl _, Nat.le_refl _⟩ (fun t_2 ht_2 hft_2 H locs hP hD hS _ => ?_)
    refine W.eq (g2 := F0 m 33 ls []) rfl ?_
    refine lv_aload_n hx hb dX7_mark_33 rfl (lv_at hl 0 rfl) ?_
    refine lv_aload_n hx hb dX7_mark_34 rfl (lv_at hl 0 rfl) ?_
    refine va_get (D := G.1) (ci := 7) (v := .int (nI (mk + 1))) (C := RX7) (T := TX7) (N := 39) hx hb hts in_X7 hown hK.1 hP 0 rfl rfl 38 (Nat.le_of_ble_eq_true rfl) (hts _ q1505) (fun _ h => h) rfl dX7_mark_35 ?_
    refine zr_muV (F := ()) (ff := fun _ => True) (rr := fun _ => some (.int (nI (mk + 1)))) (w1 := fun _ => (mW G ad 0 m_top m_bottom m_taped m_size m_token m_from m_end m_value m_faultKind m_faultPlace m_faults m_seen m_depth m_counted m_lead m_round m_tried m_triedMany m_drawn m_ranSteps m_isTold (nI (mk + 1)) t_2.1 t_2.2 m_sort m_trayMany m_trays m_tape m_text m_opened m_beside m_then m_ways m_further m_canBe m_loops m_ran m_told0)) ⟨hx, hb, hml, hown, hts⟩ (mt_mf_gives l G ad m_status m_top m_bottom m_taped m_size m_token m_from m_end m_value m_faultKind m_faultPlace m_faults m_seen m_depth m_counted m_lead m_round m_tried m_triedMany m_drawn m_ranSteps m_isTold (nI (mk + 1)) t_2.1 t_2.2 m_sort m_trayMany m_trays m_tape m_text m_opened m_beside m_then m_ways m_further m_canBe m_loops m_ran m_told0 (nI (mk + 1)) H.size) (cwV 1 hts (lw_V q1751 q1753 qs85 q144 q1754) rfl rfl rfl hd_X7_gives ⟨(Nat.le_of_ble_eq_true rfl), (Nat.le_of_ble_eq_true rfl)⟩) hP hD hS hA hK hE 0 7 rfl rfl rfl hl.1 rfl (Nat.le_of_ble_eq_true rfl) dX7_mark_38 ⟨Nat.le_refl _, Nat.le_refl _⟩ (fun _ _ _ H locs hP hD hS _ => ?_)
    refine W.eq (g2 := F0 m 41 ls [.int (nI (mk + 1))]) rfl ?_
    have e_ : mf_mark mk m_at m_names = (nI (mk + 1), 0, mk + 1, t_2.1, t_2.2) := by rw [mf_mark, if_neg c_1, zlet_eq ht_2]
    exact zr_mi hx hb hr hlocks hP hD hS dX7_mark_41 (by rw [e_])  (by rw [e_]) trivial
  · refine lv_aload_n hx hb dX7_mark_8 rfl (lv_at hl 0 rfl) ?_
    refine lv_iconst (v := 4) hx hb dX7_mark_9 (by decide) ?_
    refine zr_muV (F := ()) (ff := fun _ => True) (rr := fun _ => some (.int (-1))) (w1 := fun _ => (mW G ad 4 m_top m_bottom m_taped m_size m_token m_from m_end m_value m_faultKind m_faultPlace m_faults m_seen m_depth m_counted m_lead m_round m_tried m_triedMany m_drawn m_ranSteps m_isTold (nI mk) m_at m_names m_sort m_trayMany m_trays m_tape m_text m_opened m_beside m_then m_ways m_further m_canBe m_loops m_ran m_told0)) ⟨hx, hb, hml, hown, hts⟩ (mt_mf_refuse l G ad m_status m_top m_bottom m_taped m_size m_token m_from m_end m_value m_faultKind m_faultPlace m_faults m_seen m_depth m_counted m_lead m_round m_tried m_triedMany m_drawn m_ranSteps m_isTold (nI mk) m_at m_names m_sort m_trayMany m_trays m_tape m_text m_opened m_beside m_then m_ways m_further m_canBe m_loops m_ran m_told0 4 H.size) (cwV 1 hts (lw_V q1666 q1668 qs66 q144 q1669) rfl rfl rfl hd_X7_refuse ⟨(Nat.le_of_ble_eq_true rfl), (Nat.le_of_ble_eq_true rfl)⟩) hP hD hS hA hK hE 0 7 rfl rfl rfl hl.1 rfl (Nat.le_of_ble_eq_true rfl) dX7_mark_10 ⟨Nat.le_refl _, Nat.le_refl _⟩ (fun _ _ _ H locs hP hD hS _ => ?_)
    refine W.eq (g2 := F0 m 13 ls [.int (-1)]) rfl ?_
    have e_ : mf_mark mk m_at m_names = ((-1), 4, mk, m_at, m_names) := by rw [mf_mark, if_pos c_1]
    exact zr_mi hx hb hr hlocks hP hD hS dX7_mark_13 (by rw [e_])  (by rw [e_]) trivial
def mf_back (mk : Nat) (m_at : Nat → Int32) (m_names : Nat → Int64) : Int32 × Int32 × Nat × (Nat → Int32) × (Nat → Int64) :=
  (if mk = 0 then
    ((-1), 6, mk, m_at, m_names)
  else
    zlet (mf_copies m_at m_names mk 0) (fun t_2 =>
    (nI (mk - 1), 0, mk - 1, t_2.1, t_2.2)))
theorem hd_X7_back : yX7_back.cls = RX7 ∧ yX7_back.cls ≠ "java/lang/invoke/MethodHandle" ∧ yX7_back.cls ≠ "java/lang/invoke/VarHandle" ∧ (parseMethodDescriptor yX7_back.desc).map (fun d => d.parameters.length) = some 0 := by decide +kernel
set_option maxHeartbeats 4000000 in
set_option maxRecDepth 100000 in
theorem mt_mf_back (l : Launch) (G : zG) (ad : Nat → Nat) (m_status : Int32) (m_top : Int64) (m_bottom : Int64) (m_taped : Int32) (m_size : Int32) (m_token : Int32) (m_from : Int32) (m_end : Int32) (m_value : Int32) (m_faultKind : Int32) (m_faultPlace : Int32) (m_faults : Int32) (m_seen : Int32) (m_depth : Int32) (m_counted : Int32) (m_lead : Int32) (m_round : Int32) (m_tried : Int32) (m_triedMany : Int32) (m_drawn : Int32) (m_ranSteps : Int32) (m_isTold : Bool) (mk : Nat) (m_at : Nat → Int32) (m_names : Nat → Int64) (m_sort : Nat → Int32) (m_trayMany : Nat → Int32) (m_trays : Nat → Int64) (m_tape : Nat → Int32) (m_text : Nat → Int32) (m_opened : Nat → Int32) (m_beside : Nat → Int32) (m_then : Nat → Int32) (m_ways : Nat → Int64) (m_further : Nat → Int64) (m_canBe : Nat → Int32) (m_loops : Nat → Int32) (m_ran : Nat → Int32) (m_told0 : Nat → Int32) (hmk : mk ≤ 3) (sz : Nat) : Met l yX7_back (ws_ yX7_back cX7_back 1 (some .int)) (zR 2 0 0) (zPm G sz [.ref (ad 0)] (mW G ad m_status m_top m_bottom m_taped m_size m_token m_from m_end m_value m_faultKind m_faultPlace m_faults m_seen m_depth m_counted m_lead m_round m_tried m_triedMany m_drawn m_ranSteps m_isTold (nI mk) m_at m_names m_sort m_trayMany m_trays m_tape m_text m_opened m_beside m_then m_ways m_further m_canBe m_loops m_ran m_told0)) (zQm G (True) (some (.int ((mf_back mk m_at m_names).1))) (mW G ad ((mf_back mk m_at m_names).2.1) m_top m_bottom m_taped m_size m_token m_from m_end m_value m_faultKind m_faultPlace m_faults m_seen m_depth m_counted m_lead m_round m_tried m_triedMany m_drawn m_ranSteps m_isTold (nI ((mf_back mk m_at m_names).2.2.1)) ((mf_back mk m_at m_names).2.2.2.1) ((mf_back mk m_at m_names).2.2.2.2) m_sort m_trayMany m_trays m_tape m_text m_opened m_beside m_then m_ways m_further m_canBe m_loops m_ran m_told0) (va_A (mW G ad m_status m_top m_bottom m_taped m_size m_token m_from m_end m_value m_faultKind m_faultPlace m_faults m_seen m_depth m_counted m_lead m_round m_tried m_triedMany m_drawn m_ranSteps m_isTold (nI mk) m_at m_names m_sort m_trayMany m_trays m_tape m_text m_opened m_beside m_then m_ways m_further m_canBe m_loops m_ran m_told0) sz)) 0 0 (va_A (mW G ad m_status m_top m_bottom m_taped m_size m_token m_from m_end m_value m_faultKind m_faultPlace m_faults m_seen m_depth m_counted m_lead m_round m_tried m_triedMany m_drawn m_ranSteps m_isTold (nI mk) m_at m_names m_sort m_trayMany m_trays m_tape m_text m_opened m_beside m_then m_ways m_further m_canBe m_loops m_ran m_told0) sz) := by
  refine zr_entM (by decide) (Nat.le_of_ble_eq_true rfl) ?_
  intro p e s m below meth c ⟨hx, hb, hr, hml, hown, hts, hlocks, hnm⟩ ls hl hP hK A hE hA hD hS
  have hown : s.vm.findClass RX7 = some m.cls := hown
  have hl : lv_has ls 1 [(0, .ref (ad 0))] := hl
  obtain ⟨H, hH⟩ : ∃ H, H = s.heap := ⟨_, rfl⟩
  obtain ⟨locs, hlo⟩ : ∃ L : List Loc, L = [] := ⟨_, rfl⟩
  rw [← hH] at hP
  have hS : va_S A s.heap H locs := by rw [hH, hlo]; exact va_S.rf
  have hgo : W p l e (zR 2 0 0) s m ([.ref (ad 0)] : List Value).toArray below meth c H locs 0 0 (MQ below (zQm G (True) (some (.int ((mf_back mk m_at m_names).1))) (mW G ad ((mf_back mk m_at m_names).2.1) m_top m_bottom m_taped m_size m_token m_from m_end m_value m_faultKind m_faultPlace m_faults m_seen m_depth m_counted m_lead m_round m_tried m_triedMany m_drawn m_ranSteps m_isTold (nI ((mf_back mk m_at m_names).2.2.1)) ((mf_back mk m_at m_names).2.2.2.1) ((mf_back mk m_at m_names).2.2.2.2) m_sort m_trayMany m_trays m_tape m_text m_opened m_beside m_then m_ways m_further m_canBe m_loops m_ran m_told0) A) ([.ref (ad 0)] : List Value).toArray s 0 0 A) (F0 m 0 ls []) := ?_
  · rw [hH, hlo] at hgo; exact hgo
  clear hH hlo
  refine lv_aload_n hx hb dX7_back_0 rfl (lv_at hl 0 rfl) ?_
  refine va_get (D := G.1) (ci := 7) (v := .int (nI mk)) (C := RX7) (T := TX7) (N := 39) hx hb hts in_X7 hown hK.1 hP 0 rfl rfl 38 (Nat.le_of_ble_eq_true rfl) (hts _ q1505) (fun _ h => h) rfl dX7_back_1 ?_
  refine zr_ifneN mk (by omega) (tgt := 14) hx hb dX7_back_4 (by decide) (fun c_1 => ?_) (fun c_1 => ?_)
  · refine lv_aload_n hx hb dX7_back_14 rfl (lv_at hl 0 rfl) ?_
    refine lv_aload_n hx hb dX7_back_15 rfl (lv_at hl 0 rfl) ?_
    refine va_get (D := G.1) (ci := 7) (v := .int (nI mk)) (C := RX7) (T := TX7) (N := 39) hx hb hts in_X7 hown hK.1 hP 0 rfl rfl 38 (Nat.le_of_ble_eq_true rfl) (hts _ q1505) (fun _ h => h) rfl dX7_back_16 ?_
    refine lv_iconst (v := 0) hx hb dX7_back_19 (by decide) ?_
    refine zr_muV (F := mf_copies m_at m_names mk 0) (ff := fun t_2 => True) (rr := fun t_2 => none) (w1 := fun t_2 => (mW G ad m_status m_top m_bottom m_taped m_size m_token m_from m_end m_value m_faultKind m_faultPlace m_faults m_seen m_depth m_counted m_lead m_round m_tried m_triedMany m_drawn m_ranSteps m_isTold (nI mk) t_2.1 t_2.2 m_sort m_trayMany m_trays m_tape m_text m_opened m_beside m_then m_ways m_further m_canBe m_loops m_ran m_told0)) ⟨hx, hb, hml, hown, hts⟩ (mt_mf_copies l G ad m_status m_top m_bottom m_taped m_size m_token m_from m_end m_value m_faultKind m_faultPlace m_faults m_seen m_depth m_counted m_lead m_round m_tried m_triedMany m_drawn m_ranSteps m_isTold (nI mk) m_at m_names m_sort m_trayMany m_trays m_tape m_text m_opened m_beside m_then m_ways m_further m_canBe m_loops m_ran m_told0 mk 0 (by first | assumption | exact hcf | omega) (by first | assumption | exact hct | omega) H.size) (cwV 2 hts (lw_V q2148 q2150 qs133 q144 q2151) rfl rfl rfl hd_X7_copies ⟨(Nat.le_of_ble_eq_true rfl), (Nat.le_of_ble_eq_true rfl)⟩) hP hD hS hA hK hE 0 7 rfl rfl rfl hl.1 rfl (Nat.le_of_ble_eq_true rfl) dX7_back_20 ⟨Nat.le_refl _, Nat.le_refl _⟩ (fun t_2 ht_2 hft_2 H locs hP hD hS _ => ?_)
    refine W.eq (g2 := F0 m 23 ls []) rfl ?_
    refine lv_aload_n hx hb dX7_back_23 rfl (lv_at hl 0 rfl) ?_
    refine lv_dup hx hb dX7_back_24 rfl ?_
    refine va_get (D := G.1) (ci := 7) (v := .int (nI mk)) (C := RX7) (T := TX7) (N := 39) hx hb hts in_X7 hown hK.1 hP 0 rfl rfl 38 (Nat.le_of_ble_eq_true rfl) (hts _ q1505) (fun _ h => h) rfl dX7_back_25 ?_
    refine lv_iconst (v := 1) hx hb dX7_back_28 (by decide) ?_
    refine zr_isubN mk 1 (by omega) hx hb dX7_back_29 ?_
    refine va_put (D := G.1) (ci := 7) (v := .int (nI (mk - 1))) (ty := .int) (C := RX7) (T := TX7) (N := 39) hx hb hts in_X7 tyX7 tyX7_ok nmX7 hown hK.1 hP hD hS 0 rfl rfl 38 (Nat.le_of_ble_eq_true rfl) (hts _ q1505) (fun _ h => h) rfl (tyX7_ok 38 (Nat.le_of_ble_eq_true rfl)) rfl rfl (Nat.le_of_ble_eq_true rfl) dX7_back_30 (fun H locs hP hD hS => ?_)
    have hP : va_P G.1 zcl (mW G ad m_status m_top m_bottom m_taped m_size m_token m_from m_end m_value m_faultKind m_faultPlace m_faults m_seen m_depth m_counted m_lead m_round m_tried m_triedMany m_drawn m_ranSteps m_isTold (nI (mk - 1)) t_2.1 t_2.2 m_sort m_trayMany m_trays m_tape m_text m_opened m_beside m_then m_ways m_further m_canBe m_loops m_ran m_told0) H := hP
    have hD : va_D A (mW G ad m_status m_top m_bottom m_taped m_size m_token m_from m_end m_value m_faultKind m_faultPlace m_faults m_seen m_depth m_counted m_lead m_round m_tried m_triedMany m_drawn m_ranSteps m_isTold (nI (mk - 1)) t_2.1 t_2.2 m_sort m_trayMany m_trays m_tape m_text m_opened m_beside m_then m_ways m_further m_canBe m_loops m_ran m_told0) := hD
    refine lv_aload_n hx hb dX7_back_33 rfl (lv_at hl 0 rfl) ?_
    refine lv_aload_n hx hb dX7_back_34 rfl (lv_at hl 0 rfl) ?_
    refine va_get (D := G.1) (ci := 7) (v := .int (nI (mk - 1))) (C := RX7) (T := TX7) (N := 39) hx hb hts in_X7 hown hK.1 hP 0 rfl rfl 38 (Nat.le_of_ble_eq_true rfl) (hts _ q1505) (fun _ h => h) rfl dX7_back_35 ?_
    refine zr_muV (F := ()) (ff := fun _ => True) (rr := fun _ => some (.int (nI (mk - 1)))) (w1 := fun _ => (mW G ad 0 m_top m_bottom m_taped m_size m_token m_from m_end m_value m_faultKind m_faultPlace m_faults m_seen m_depth m_counted m_lead m_round m_tried m_triedMany m_drawn m_ranSteps m_isTold (nI (mk - 1)) t_2.1 t_2.2 m_sort m_trayMany m_trays m_tape m_text m_opened m_beside m_then m_ways m_further m_canBe m_loops m_ran m_told0)) ⟨hx, hb, hml, hown, hts⟩ (mt_mf_gives l G ad m_status m_top m_bottom m_taped m_size m_token m_from m_end m_value m_faultKind m_faultPlace m_faults m_seen m_depth m_counted m_lead m_round m_tried m_triedMany m_drawn m_ranSteps m_isTold (nI (mk - 1)) t_2.1 t_2.2 m_sort m_trayMany m_trays m_tape m_text m_opened m_beside m_then m_ways m_further m_canBe m_loops m_ran m_told0 (nI (mk - 1)) H.size) (cwV 1 hts (lw_V q1751 q1753 qs85 q144 q1754) rfl rfl rfl hd_X7_gives ⟨(Nat.le_of_ble_eq_true rfl), (Nat.le_of_ble_eq_true rfl)⟩) hP hD hS hA hK hE 0 7 rfl rfl rfl hl.1 rfl (Nat.le_of_ble_eq_true rfl) dX7_back_38 ⟨Nat.le_refl _, Nat.le_refl _⟩ (fun _ _ _ H locs hP hD hS _ => ?_)
    refine W.eq (g2 := F0 m 41 ls [.int (nI (mk - 1))]) rfl ?_
    have e_ : mf_back mk m_at m_names = (nI (mk - 1), 0, mk - 1, t_2.1, t_2.2) := by rw [mf_back, if_neg c_1, zlet_eq ht_2]
    exact zr_mi hx hb hr hlocks hP hD hS dX7_back_41 (by rw [e_])  (by rw [e_]) trivial
  · refine lv_aload_n hx hb dX7_back_7 rfl (lv_at hl 0 rfl) ?_
    refine lv_bipush (v := 6) hx hb dX7_back_8 (by decide) ?_
    refine zr_muV (F := ()) (ff := fun _ => True) (rr := fun _ => some (.int (-1))) (w1 := fun _ => (mW G ad 6 m_top m_bottom m_taped m_size m_token m_from m_end m_value m_faultKind m_faultPlace m_faults m_seen m_depth m_counted m_lead m_round m_tried m_triedMany m_drawn m_ranSteps m_isTold (nI mk) m_at m_names m_sort m_trayMany m_trays m_tape m_text m_opened m_beside m_then m_ways m_further m_canBe m_loops m_ran m_told0)) ⟨hx, hb, hml, hown, hts⟩ (mt_mf_refuse l G ad m_status m_top m_bottom m_taped m_size m_token m_from m_end m_value m_faultKind m_faultPlace m_faults m_seen m_depth m_counted m_lead m_round m_tried m_triedMany m_drawn m_ranSteps m_isTold (nI mk) m_at m_names m_sort m_trayMany m_trays m_tape m_text m_opened m_beside m_then m_ways m_further m_canBe m_loops m_ran m_told0 6 H.size) (cwV 1 hts (lw_V q1666 q1668 qs66 q144 q1669) rfl rfl rfl hd_X7_refuse ⟨(Nat.le_of_ble_eq_true rfl), (Nat.le_of_ble_eq_true rfl)⟩) hP hD hS hA hK hE 0 7 rfl rfl rfl hl.1 rfl (Nat.le_of_ble_eq_true rfl) dX7_back_10 ⟨Nat.le_refl _, Nat.le_refl _⟩ (fun _ _ _ H locs hP hD hS _ => ?_)
    refine W.eq (g2 := F0 m 13 ls [.int (-1)]) rfl ?_
    have e_ : mf_back mk m_at m_names = ((-1), 6, mk, m_at, m_names) := by rw [mf_back, if_pos c_1]
    exact zr_mi hx hb hr hlocks hP hD hS dX7_back_13 (by rw [e_])  (by rw [e_]) trivial
theorem lst_lt {f : Nat → Int32} {n r0 : Nat} (h0 : r0 < 32) (h1 : ¬ f r0 = -1) (h : ∀ r, r < n → f r = -1) : n < 32 := by
  rcases Nat.lt_or_ge n 32 with q | q
  · exact q
  · exact absurd (h r0 (by omega)) h1
theorem lst_ra {f : Nat → Int32} {n : Nat} (h : ∀ r, r < n → f r = -1) (h1 : f n = -1) : ∀ r, r < n + 1 → f r = -1 := by
  intro r hr
  rcases Nat.lt_or_eq_of_le (Nat.le_of_lt_succ hr) with q | q
  · exact h r q
  · rw [q]; exact h1
theorem lst_mu {n n' a : Nat} {x x' : Int32} (hmu : 32 - a + (if x = -1 then 1 else 0) < n + 1) (hlt : a < 32) (hx : x = -1) (h : (x' = -1 ∧ n' = a + 1) ∨ (¬ x' = -1 ∧ n' = a + 0)) : 32 - n' + (if x' = -1 then 1 else 0) < n := by
  rw [if_pos hx] at hmu
  rcases h with ⟨h1, h2⟩ | ⟨h1, h2⟩
  · rw [if_pos h1]; omega
  · rw [if_neg h1]; omega
def mf_least_B17 (m_at : Nat → Int32) (m_canBe : Nat → Int32) (Wd : Nat) (R : Nat) (still : Bool) (s_1 : Int32 × Nat) : (Int32 × Nat) ⊕ (Int32 × Nat) :=
  (if s_1.1 = (-1) then
    (if (mf_aboveOf m_at m_canBe Wd s_1.2 0 (R - 1) still) = (-1) then
      .inl (mf_aboveOf m_at m_canBe Wd s_1.2 0 (R - 1) still, s_1.2 + 1)
    else
      .inl (mf_aboveOf m_at m_canBe Wd s_1.2 0 (R - 1) still, s_1.2))
  else
    .inr (s_1.1, s_1.2))
def mf_least_L17 (m_at : Nat → Int32) (m_canBe : Nat → Int32) (Wd : Nat) (R : Nat) (still : Bool) (s_1 : Int32 × Nat) : Int32 × Nat := zw (mf_least_B17 m_at m_canBe Wd R still) (s_1) ((32 - s_1.2 + (if s_1.1 = -1 then 1 else 0)) + 1) s_1
def mf_least_B66 (m_at : Nat → Int32) (m_canBe : Nat → Int32) (Wd : Nat) (R : Nat) (still : Bool) (s_4 : Int32 × Int32 × Nat × Nat) : (Int32 × Int32 × Nat × Nat) ⊕ (Int32 × Int32 × Nat × Nat) :=
  (if s_4.2.2.2 = 0 then
    .inr (s_4.1, s_4.2.1, s_4.2.2.1, s_4.2.2.2)
  else
    .inl (s_4.1 ||| ((nI s_4.2.1.toNatClampNeg) <<< ((nI (Wd * (s_4.2.2.2 - 1))) &&& 31)), mf_aboveOf m_at m_canBe Wd s_4.2.1.toNatClampNeg (nI s_4.2.2.1) (s_4.2.2.2 - 1) still, s_4.2.1.toNatClampNeg, s_4.2.2.2 - 1))
def mf_least_L66 (m_at : Nat → Int32) (m_canBe : Nat → Int32) (Wd : Nat) (R : Nat) (still : Bool) (s_4 : Int32 × Int32 × Nat × Nat) : Int32 × Int32 × Nat × Nat := zw (mf_least_B66 m_at m_canBe Wd R still) (s_4) (s_4.2.2.2 + 1) s_4
def mf_least (m_at : Nat → Int32) (m_canBe : Nat → Int32) (Wd : Nat) (R : Nat) (still : Bool) : Int64 :=
  zlet (mf_least_L17 m_at m_canBe Wd R still ((-1), 0)) (fun t_1 =>
  zlet (mf_least_L66 m_at m_canBe Wd R still ((nI t_1.2) <<< ((nI (Wd * (R - 1))) &&& 31), t_1.1, t_1.2, R - 1)) (fun t_4 =>
  t_4.1.toInt64))
theorem hd_X7_least : yX7_least.cls = RX7 ∧ yX7_least.cls ≠ "java/lang/invoke/MethodHandle" ∧ yX7_least.cls ≠ "java/lang/invoke/VarHandle" ∧ (parseMethodDescriptor yX7_least.desc).map (fun d => d.parameters.length) = some 1 := by decide +kernel
set_option maxHeartbeats 4000000 in
set_option maxRecDepth 100000 in
theorem mt_mf_least (l : Launch) (G : zG) (ad : Nat → Nat) (m_status : Int32) (m_top : Int64) (m_bottom : Int64) (m_taped : Int32) (m_size : Int32) (m_token : Int32) (m_from : Int32) (m_end : Int32) (m_value : Int32) (m_faultKind : Int32) (m_faultPlace : Int32) (m_faults : Int32) (m_seen : Int32) (m_depth : Int32) (m_counted : Int32) (m_lead : Int32) (m_round : Int32) (m_tried : Int32) (m_triedMany : Int32) (m_drawn : Int32) (m_ranSteps : Int32) (m_isTold : Bool) (m_marks : Int32) (m_at : Nat → Int32) (m_names : Nat → Int64) (m_sort : Nat → Int32) (m_trayMany : Nat → Int32) (m_trays : Nat → Int64) (m_tape : Nat → Int32) (m_text : Nat → Int32) (m_opened : Nat → Int32) (m_beside : Nat → Int32) (m_then : Nat → Int32) (m_ways : Nat → Int64) (m_further : Nat → Int64) (m_canBe : Nat → Int32) (m_loops : Nat → Int32) (m_ran : Nat → Int32) (m_told0 : Nat → Int32) (Wd : Nat) (R : Nat) (nr : Nat) (nc : Nat) (still : Bool) (hG : mOK m_at Wd R nr nc) (hqa : ∃ r, r < 32 ∧ ¬ mf_aboveOf m_at m_canBe Wd r 0 (R - 1) still = -1) (hqb : ∀ (y row : Nat) (undr : Int32), 1 ≤ y → y < R → row < 32 → ¬ mf_aboveOf m_at m_canBe Wd row undr y still = -1 → ¬ mf_aboveOf m_at m_canBe Wd (mf_aboveOf m_at m_canBe Wd row undr y still).toNatClampNeg (nI row) (y - 1) still = -1) : Met l yX7_least (ws_ yX7_least cX7_least 7 (some .long)) (zR 5 0 0) (zPo G [.ref (ad 0), .int (zb still)] (mW G ad m_status m_top m_bottom m_taped m_size m_token m_from m_end m_value m_faultKind m_faultPlace m_faults m_seen m_depth m_counted m_lead m_round m_tried m_triedMany m_drawn m_ranSteps m_isTold m_marks m_at m_names m_sort m_trayMany m_trays m_tape m_text m_opened m_beside m_then m_ways m_further m_canBe m_loops m_ran m_told0)) (k2_QcV (.long (mf_least m_at m_canBe Wd R still))) 0 0 (fun _ => False) := by
  refine zr_entO (by decide) (Nat.le_of_ble_eq_true rfl) ?_
  intro p e s m below meth c ⟨hx, hb, hr, hml, hown, hts, hlocks, hnm⟩ ls hl hP hK hE
  have hown : s.vm.findClass RX7 = some m.cls := hown
  have hl : lv_has ls 7 [(0, .ref (ad 0)), (1, .int (zb still))] := hl
  have hWR := mOK_WR hG
  have hW0 := mOK_W0 hG
  have hW5 := mOK_W5 hG
  have hR0 := mOK_R0 hG
  have hR6 := mOK_R6 hG
  have hn4 := mOK_n4 hG
  have hc6 := mOK_c6 hG
  obtain ⟨r0, hr0, hr1⟩ := hqa
  refine lv_aload_n hx hb dX7_least_0 rfl (lv_at hl 0 rfl) ?_
  refine va_get (D := G.1) (ci := 7) (v := .ref (ad 1)) (C := RX7) (T := TX7) (N := 39) hx hb hts in_X7 hown hK.1 hP 0 rfl rfl 0 (Nat.le_of_ble_eq_true rfl) (hts _ q1467) (fun _ h => h) rfl dX7_least_1 ?_
  refine lv_iconst (v := 1) hx hb dX7_least_4 (by decide) ?_
  refine zr_iald 1 (v := nI R) hx hb hK hP 1 rfl rfl (Nat.le_of_ble_eq_true rfl) rfl (by decide) (mOK_r hG) dX7_least_5 ?_
  refine lv_iconst (v := 1) hx hb dX7_least_6 (by decide) ?_
  refine zr_isubN R 1 (by omega) hx hb dX7_least_7 ?_
  refine lv_istore_n (lv' := [(2, .int (nI (R - 1))), (0, .ref (ad 0)), (1, .int (zb still))]) hx hb dX7_least_8 rfl hl (by decide) rfl (fun ls hl => ?_)
  refine lv_iconst (v := 0) hx hb dX7_least_9 (by decide) ?_
  refine lv_istore_n (lv' := [(3, .int 0), (2, .int (nI (R - 1))), (0, .ref (ad 0)), (1, .int (zb still))]) hx hb dX7_least_10 rfl hl (by decide) rfl (fun ls hl => ?_)
  refine lv_iconst (v := 0) hx hb dX7_least_11 (by decide) ?_
  refine lv_istore (lv' := [(4, .int 0), (3, .int 0), (2, .int (nI (R - 1))), (0, .ref (ad 0)), (1, .int (zb still))]) hx hb dX7_least_12 hl (by decide) rfl (fun ls hl => ?_)
  refine lv_iconst (v := (-1)) hx hb dX7_least_14 (by decide) ?_
  refine lv_istore (lv' := [(5, .int (-1)), (4, .int 0), (3, .int 0), (2, .int (nI (R - 1))), (0, .ref (ad 0)), (1, .int (zb still))]) hx hb dX7_least_15 hl (by decide) rfl (fun ls hl => ?_)
  have hx_1 : ∀ t_1 : Int32 × Nat, mf_least_L17 m_at m_canBe Wd R still ((-1), 0) = t_1 → t_1.1 = mf_aboveOf m_at m_canBe Wd t_1.2 0 (R - 1) still ∧ ¬ t_1.1 = -1 → t_1.2 < 32 → ∀ ls : Array Slot, lv_has ls 7 [(5, .int t_1.1), (4, .int (nI t_1.2)), (2, .int (nI (R - 1))), (0, .ref (ad 0)), (1, .int (zb still))] → W p l e (zR 5 0 0) s m ([.ref (ad 0), .int (zb still)] : List Value).toArray below meth c s.heap [] 0 0 (MQ below (k2_QcV (.long (mf_least m_at m_canBe Wd R still))) ([.ref (ad 0), .int (zb still)] : List Value).toArray s 0 0 (fun _ => False)) (F0 m 53 ls []) := by
    intro t_1 ht_1 hxa hxl ls hl
    refine lv_iload hx hb dX7_least_53 (lv_at hl 1 rfl) ?_
    refine lv_aload_n hx hb dX7_least_55 rfl (lv_at hl 3 rfl) ?_
    refine va_get (D := G.1) (ci := 7) (v := .ref (ad 1)) (C := RX7) (T := TX7) (N := 39) hx hb hts in_X7 hown hK.1 hP 0 rfl rfl 0 (Nat.le_of_ble_eq_true rfl) (hts _ q1467) (fun _ h => h) rfl dX7_least_56 ?_
    refine lv_iconst (v := 0) hx hb dX7_least_59 (by decide) ?_
    refine zr_iald 0 (v := nI Wd) hx hb hK hP 1 rfl rfl (Nat.le_of_ble_eq_true rfl) rfl (by decide) (mOK_w hG) dX7_least_60 ?_
    refine lv_iload_n hx hb dX7_least_61 rfl (lv_at hl 2 rfl) ?_
    refine zr_imulN Wd (R - 1) hx hb dX7_least_62 ?_
    refine lv_ishl hx hb dX7_least_63 ?_
    refine lv_istore (lv' := [(6, .int ((nI t_1.2) <<< ((nI (Wd * (R - 1))) &&& 31))), (5, .int t_1.1), (4, .int (nI t_1.2)), (2, .int (nI (R - 1))), (0, .ref (ad 0)), (1, .int (zb still))]) hx hb dX7_least_64 hl (by decide) rfl (fun ls hl => ?_)
    have hx_4 : ∀ t_4 : Int32 × Int32 × Nat × Nat, mf_least_L66 m_at m_canBe Wd R still ((nI t_1.2) <<< ((nI (Wd * (R - 1))) &&& 31), t_1.1, t_1.2, R - 1) = t_4 → ∀ ls : Array Slot, lv_has ls 7 [(6, .int t_4.1)] → W p l e (zR 5 0 0) s m ([.ref (ad 0), .int (zb still)] : List Value).toArray below meth c s.heap [] 0 0 (MQ below (k2_QcV (.long (mf_least m_at m_canBe Wd R still))) ([.ref (ad 0), .int (zb still)] : List Value).toArray s 0 0 (fun _ => False)) (F0 m 110 ls []) := by
      intro t_4 ht_4 ls hl
      refine lv_iload hx hb dX7_least_110 (lv_at hl 0 rfl) ?_
      refine lv_i2l hx hb dX7_least_112 rfl ?_
      have e_ : mf_least m_at m_canBe Wd R still = t_4.1.toInt64 := by rw [mf_least, zlet_eq ht_1, zlet_eq ht_4]
      exact zr_ol hx hb hr hlocks dX7_least_113 (congrArg Value.long e_)
    have hlp_4 : ∀ (n : Nat) (s_4 : Int32 × Int32 × Nat × Nat), s_4.2.2.2 < n → zw (mf_least_B66 m_at m_canBe Wd R still) ((nI t_1.2) <<< ((nI (Wd * (R - 1))) &&& 31), t_1.1, t_1.2, R - 1) n s_4 = mf_least_L66 m_at m_canBe Wd R still ((nI t_1.2) <<< ((nI (Wd * (R - 1))) &&& 31), t_1.1, t_1.2, R - 1) → s_4.2.2.2 < R → s_4.2.2.1 < 32 → (∃ u0, s_4.2.1 = mf_aboveOf m_at m_canBe Wd s_4.2.2.1 u0 s_4.2.2.2 still ∧ ¬ s_4.2.1 = -1) → ∀ ls : Array Slot, lv_has ls 7 [(6, .int s_4.1), (5, .int s_4.2.1), (4, .int (nI s_4.2.2.1)), (2, .int (nI s_4.2.2.2)), (0, .ref (ad 0)), (1, .int (zb still))] → W p l e (zR 5 0 0) s m ([.ref (ad 0), .int (zb still)] : List Value).toArray below meth c s.heap [] 0 0 (MQ below (k2_QcV (.long (mf_least m_at m_canBe Wd R still))) ([.ref (ad 0), .int (zb still)] : List Value).toArray s 0 0 (fun _ => False)) (F0 m 66 ls []) := by
      intro n
      induction n with
      | zero => exact fun _ h => absurd h (Nat.not_lt_zero _)
      | succ n ih_4 =>
        intro s_4 hmu_4 hR_4 hy0 hr4 hyc ls hl
        obtain ⟨u0, hyc1, hyc2⟩ := hyc
        have hab := ab_32 (R := R) (show Wd < 6 by omega) hyc1 hyc2
        refine lv_iload_n hx hb dX7_least_66 rfl (lv_at hl 3 rfl) ?_
        refine zr_ifleN s_4.2.2.2 (by omega) (tgt := 110) hx hb dX7_least_67 (by decide) (fun c_5 => ?_) (fun c_5 => ?_)
        · exact hx_4 (s_4.1, s_4.2.1, s_4.2.2.1, s_4.2.2.2) (hR_4.symm.trans (zw_r (by rw [mf_least_B66, if_pos c_5]))) ls (lv_sub hl [0] rfl)
        · refine lv_iinc (v := nI (s_4.2.2.2 - 1)) (lv' := [(2, .int (nI (s_4.2.2.2 - 1))), (6, .int s_4.1), (5, .int s_4.2.1), (4, .int (nI s_4.2.2.1)), (0, .ref (ad 0)), (1, .int (zb still))]) hx hb dX7_least_70 hl (k := 3) rfl (z_dec (by omega)) (by decide) rfl (fun ls hl => ?_)
          refine lv_iload hx hb dX7_least_73 (lv_at hl 3 rfl) ?_
          refine lv_istore_n (lv' := [(3, .int (nI s_4.2.2.1)), (2, .int (nI (s_4.2.2.2 - 1))), (6, .int s_4.1), (5, .int s_4.2.1), (4, .int (nI s_4.2.2.1)), (0, .ref (ad 0)), (1, .int (zb still))]) hx hb dX7_least_75 rfl hl (by decide) rfl (fun ls hl => ?_)
          refine lv_iload hx hb dX7_least_76 (lv_at hl 3 rfl) ?_
          refine zr_val (congrArg Value.int (z_nn hab.1)) ?_
          refine W.eq (g2 := F0 m 78 ls [.int (nI s_4.2.1.toNatClampNeg)]) rfl ?_
          refine lv_istore (lv' := [(4, .int (nI s_4.2.1.toNatClampNeg)), (3, .int (nI s_4.2.2.1)), (2, .int (nI (s_4.2.2.2 - 1))), (6, .int s_4.1), (5, .int s_4.2.1), (0, .ref (ad 0)), (1, .int (zb still))]) hx hb dX7_least_78 hl (by decide) rfl (fun ls hl => ?_)
          refine lv_iload hx hb dX7_least_80 (lv_at hl 3 rfl) ?_
          refine lv_iload hx hb dX7_least_82 (lv_at hl 0 rfl) ?_
          refine lv_aload_n hx hb dX7_least_84 rfl (lv_at hl 5 rfl) ?_
          refine va_get (D := G.1) (ci := 7) (v := .ref (ad 1)) (C := RX7) (T := TX7) (N := 39) hx hb hts in_X7 hown hK.1 hP 0 rfl rfl 0 (Nat.le_of_ble_eq_true rfl) (hts _ q1467) (fun _ h => h) rfl dX7_least_85 ?_
          refine lv_iconst (v := 0) hx hb dX7_least_88 (by decide) ?_
          refine zr_iald 0 (v := nI Wd) hx hb hK hP 1 rfl rfl (Nat.le_of_ble_eq_true rfl) rfl (by decide) (mOK_w hG) dX7_least_89 ?_
          refine lv_iload_n hx hb dX7_least_90 rfl (lv_at hl 2 rfl) ?_
          refine zr_imulN Wd (s_4.2.2.2 - 1) hx hb dX7_least_91 ?_
          refine lv_ishl hx hb dX7_least_92 ?_
          refine lv_ior hx hb dX7_least_93 ?_
          refine lv_istore (lv' := [(6, .int (s_4.1 ||| ((nI s_4.2.1.toNatClampNeg) <<< ((nI (Wd * (s_4.2.2.2 - 1))) &&& 31)))), (4, .int (nI s_4.2.1.toNatClampNeg)), (3, .int (nI s_4.2.2.1)), (2, .int (nI (s_4.2.2.2 - 1))), (5, .int s_4.2.1), (0, .ref (ad 0)), (1, .int (zb still))]) hx hb dX7_least_94 hl (by decide) rfl (fun ls hl => ?_)
          refine lv_aload_n hx hb dX7_least_96 rfl (lv_at hl 5 rfl) ?_
          refine lv_iload hx hb dX7_least_97 (lv_at hl 1 rfl) ?_
          refine lv_iload_n hx hb dX7_least_99 rfl (lv_at hl 2 rfl) ?_
          refine lv_iload_n hx hb dX7_least_100 rfl (lv_at hl 3 rfl) ?_
          refine lv_iload_n hx hb dX7_least_101 rfl (lv_at hl 6 rfl) ?_
          refine zr_obV ⟨hx, hb, hml, hown, hts⟩ (mt_mf_aboveOf l G ad m_status m_top m_bottom m_taped m_size m_token m_from m_end m_value m_faultKind m_faultPlace m_faults m_seen m_depth m_counted m_lead m_round m_tried m_triedMany m_drawn m_ranSteps m_isTold m_marks m_at m_names m_sort m_trayMany m_trays m_tape m_text m_opened m_beside m_then m_ways m_further m_canBe m_loops m_ran m_told0 Wd R nr nc s_4.2.1.toNatClampNeg (nI s_4.2.2.1) (s_4.2.2.2 - 1) still hG (by first | assumption | exact hrow | omega) (by first | assumption | exact hy | omega)) (cwV 4 hts (lw_V q1976 q1978 qs116 q144 q1979) rfl rfl rfl hd_X7_aboveOf ⟨(Nat.le_of_ble_eq_true rfl), (Nat.le_of_ble_eq_true rfl)⟩) hP hK hE 0 7 rfl rfl rfl hl.1 rfl (Nat.le_of_ble_eq_true rfl) dX7_least_102 ⟨Nat.le_refl _, Nat.le_refl _⟩ ?_
          refine lv_istore (lv' := [(5, .int (mf_aboveOf m_at m_canBe Wd s_4.2.1.toNatClampNeg (nI s_4.2.2.1) (s_4.2.2.2 - 1) still)), (6, .int (s_4.1 ||| ((nI s_4.2.1.toNatClampNeg) <<< ((nI (Wd * (s_4.2.2.2 - 1))) &&& 31)))), (4, .int (nI s_4.2.1.toNatClampNeg)), (3, .int (nI s_4.2.2.1)), (2, .int (nI (s_4.2.2.2 - 1))), (0, .ref (ad 0)), (1, .int (zb still))]) hx hb dX7_least_105 hl (by decide) rfl (fun ls hl => ?_)
          refine lv_goto (tgt := 66) hx hb dX7_least_107 (by decide) ?_
          exact ih_4 (s_4.1 ||| ((nI s_4.2.1.toNatClampNeg) <<< ((nI (Wd * (s_4.2.2.2 - 1))) &&& 31)), mf_aboveOf m_at m_canBe Wd s_4.2.1.toNatClampNeg (nI s_4.2.2.1) (s_4.2.2.2 - 1) still, s_4.2.1.toNatClampNeg, s_4.2.2.2 - 1) (by dsimp only; omega) ((zw_l (by rw [mf_least_B66, if_neg c_5])).symm.trans hR_4) (by dsimp only; omega) hab.2 (⟨_, rfl, by rw [hyc1]; exact hqb _ _ _ (by omega) hy0 hr4 (hyc1 ▸ hyc2)⟩) ls (lv_sub hl [1, 0, 2, 4, 5, 6] rfl)
    exact hlp_4 _ ((nI t_1.2) <<< ((nI (Wd * (R - 1))) &&& 31), t_1.1, t_1.2, R - 1) (Nat.lt_succ_self _) (by rw [mf_least_L66]) (by dsimp only; omega) hxl (⟨0, hxa⟩) ls (lv_sub hl [0, 1, 2, 3, 4, 5] rfl)
  have hlp_1 : ∀ (n : Nat) (s_1 : Int32 × Nat), 32 - s_1.2 + (if s_1.1 = -1 then 1 else 0) < n → zw (mf_least_B17 m_at m_canBe Wd R still) ((-1), 0) n s_1 = mf_least_L17 m_at m_canBe Wd R still ((-1), 0) → (∀ r, r < s_1.2 → mf_aboveOf m_at m_canBe Wd r 0 (R - 1) still = -1) → s_1.1 = -1 ∨ (s_1.1 = mf_aboveOf m_at m_canBe Wd s_1.2 0 (R - 1) still ∧ ¬ s_1.1 = -1) → ∀ ls : Array Slot, lv_has ls 7 [(5, .int s_1.1), (4, .int (nI s_1.2)), (3, .int 0), (2, .int (nI (R - 1))), (0, .ref (ad 0)), (1, .int (zb still))] → W p l e (zR 5 0 0) s m ([.ref (ad 0), .int (zb still)] : List Value).toArray below meth c s.heap [] 0 0 (MQ below (k2_QcV (.long (mf_least m_at m_canBe Wd R still))) ([.ref (ad 0), .int (zb still)] : List Value).toArray s 0 0 (fun _ => False)) (F0 m 17 ls []) := by
    intro n
    induction n with
    | zero => exact fun _ h => absurd h (Nat.not_lt_zero _)
    | succ n ih_1 =>
      intro s_1 hmu_1 hR_1 hra hrb ls hl
      have hlt : s_1.2 < 32 := lst_lt hr0 hr1 hra
      refine lv_iload hx hb dX7_least_17 (lv_at hl 0 rfl) ?_
      refine lv_iconst (v := (-1)) hx hb dX7_least_19 (by decide) ?_
      refine lv_icmp_ne (tgt := 53) hx hb dX7_least_20 (by decide) (fun c_2 => ?_) (fun c_2 => ?_)
      · exact hx_1 (s_1.1, s_1.2) (hR_1.symm.trans (zw_r (by rw [mf_least_B17, if_neg c_2]))) (hrb.resolve_left (by assumption)) hlt ls (lv_sub hl [0, 1, 3, 4, 5] rfl)
      · refine lv_aload_n hx hb dX7_least_23 rfl (lv_at hl 4 rfl) ?_
        refine lv_iload hx hb dX7_least_24 (lv_at hl 1 rfl) ?_
        refine lv_iload_n hx hb dX7_least_26 rfl (lv_at hl 2 rfl) ?_
        refine lv_iload_n hx hb dX7_least_27 rfl (lv_at hl 3 rfl) ?_
        refine lv_iload_n hx hb dX7_least_28 rfl (lv_at hl 5 rfl) ?_
        refine zr_obV ⟨hx, hb, hml, hown, hts⟩ (mt_mf_aboveOf l G ad m_status m_top m_bottom m_taped m_size m_token m_from m_end m_value m_faultKind m_faultPlace m_faults m_seen m_depth m_counted m_lead m_round m_tried m_triedMany m_drawn m_ranSteps m_isTold m_marks m_at m_names m_sort m_trayMany m_trays m_tape m_text m_opened m_beside m_then m_ways m_further m_canBe m_loops m_ran m_told0 Wd R nr nc s_1.2 0 (R - 1) still hG (by first | assumption | exact hrow | omega) (by first | assumption | exact hy | omega)) (cwV 4 hts (lw_V q1976 q1978 qs116 q144 q1979) rfl rfl rfl hd_X7_aboveOf ⟨(Nat.le_of_ble_eq_true rfl), (Nat.le_of_ble_eq_true rfl)⟩) hP hK hE 0 7 rfl rfl rfl hl.1 rfl (Nat.le_of_ble_eq_true rfl) dX7_least_29 ⟨Nat.le_refl _, Nat.le_refl _⟩ ?_
        refine lv_istore (lv' := [(5, .int (mf_aboveOf m_at m_canBe Wd s_1.2 0 (R - 1) still)), (4, .int (nI s_1.2)), (3, .int 0), (2, .int (nI (R - 1))), (0, .ref (ad 0)), (1, .int (zb still))]) hx hb dX7_least_32 hl (by decide) rfl (fun ls hl => ?_)
        refine lv_iload hx hb dX7_least_34 (lv_at hl 1 rfl) ?_
        refine lv_iload hx hb dX7_least_36 (lv_at hl 0 rfl) ?_
        refine lv_iconst (v := (-1)) hx hb dX7_least_38 (by decide) ?_
        refine lv_icmp_ne (tgt := 46) hx hb dX7_least_39 (by decide) (fun c_3 => ?_) (fun c_3 => ?_)
        · refine lv_iconst (v := 0) hx hb dX7_least_46 (by decide) ?_
          refine zr_iaddN s_1.2 0 hx hb dX7_least_47 ?_
          refine zr_val (v' := .int (nI s_1.2)) (by rfl) ?_
          refine lv_istore (lv' := [(4, .int (nI s_1.2)), (5, .int (mf_aboveOf m_at m_canBe Wd s_1.2 0 (R - 1) still)), (3, .int 0), (2, .int (nI (R - 1))), (0, .ref (ad 0)), (1, .int (zb still))]) hx hb dX7_least_48 hl (by decide) rfl (fun ls hl => ?_)
          refine lv_goto (tgt := 17) hx hb dX7_least_50 (by decide) ?_
          exact ih_1 (mf_aboveOf m_at m_canBe Wd s_1.2 0 (R - 1) still, s_1.2) (lst_mu hmu_1 hlt (by assumption) (by first | exact Or.inl ⟨by assumption, rfl⟩ | exact Or.inr ⟨by assumption, rfl⟩)) ((zw_l (by rw [mf_least_B17, if_pos c_2, if_neg c_3])).symm.trans hR_1) (by first | exact lst_ra hra (by assumption) | exact hra) (by first | exact Or.inr ⟨rfl, by assumption⟩ | exact Or.inl (by assumption)) ls (lv_sub hl [1, 0, 2, 3, 4, 5] rfl)
        · refine lv_iconst (v := 1) hx hb dX7_least_42 (by decide) ?_
          refine lv_goto (tgt := 47) hx hb dX7_least_43 (by decide) ?_
          refine zr_iaddN s_1.2 1 hx hb dX7_least_47 ?_
          refine lv_istore (lv' := [(4, .int (nI (s_1.2 + 1))), (5, .int (mf_aboveOf m_at m_canBe Wd s_1.2 0 (R - 1) still)), (3, .int 0), (2, .int (nI (R - 1))), (0, .ref (ad 0)), (1, .int (zb still))]) hx hb dX7_least_48 hl (by decide) rfl (fun ls hl => ?_)
          refine lv_goto (tgt := 17) hx hb dX7_least_50 (by decide) ?_
          exact ih_1 (mf_aboveOf m_at m_canBe Wd s_1.2 0 (R - 1) still, s_1.2 + 1) (lst_mu hmu_1 hlt (by assumption) (by first | exact Or.inl ⟨by assumption, rfl⟩ | exact Or.inr ⟨by assumption, rfl⟩)) ((zw_l (by rw [mf_least_B17, if_pos c_2, if_pos c_3])).symm.trans hR_1) (by first | exact lst_ra hra (by assumption) | exact hra) (by first | exact Or.inr ⟨rfl, by assumption⟩ | exact Or.inl (by assumption)) ls (lv_sub hl [1, 0, 2, 3, 4, 5] rfl)
  exact hlp_1 _ ((-1), 0) (Nat.lt_succ_self _) (by rw [mf_least_L17]) (fun r h => absurd h (Nat.not_lt_zero _)) (Or.inl rfl) ls (lv_sub hl [0, 1, 2, 3, 4, 5] rfl)
