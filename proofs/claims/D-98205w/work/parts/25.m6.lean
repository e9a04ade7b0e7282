def mf_pictures (m_at : Nat → Int32) : Int64 × Int32 :=
  ((1 : Int64) <<< ((nI (zpc (mf_free m_at))).toInt64 &&& 63), 0)
theorem hd_X7_pictures : yX7_pictures.cls = RX7 ∧ yX7_pictures.cls ≠ "java/lang/invoke/MethodHandle" ∧ yX7_pictures.cls ≠ "java/lang/invoke/VarHandle" ∧ (parseMethodDescriptor yX7_pictures.desc).map (fun d => d.parameters.length) = some 0 := by decide +kernel
set_option maxHeartbeats 4000000 in
set_option maxRecDepth 100000 in
theorem mt_mf_pictures (l : Launch) (G : zG) (ad : Nat → Nat) (m_status : Int32) (m_top : Int64) (m_bottom : Int64) (m_taped : Int32) (m_size : Int32) (m_token : Int32) (m_from : Int32) (m_end : Int32) (m_value : Int32) (m_faultKind : Int32) (m_faultPlace : Int32) (m_faults : Int32) (m_seen : Int32) (m_depth : Int32) (m_counted : Int32) (m_lead : Int32) (m_round : Int32) (m_tried : Int32) (m_triedMany : Int32) (m_drawn : Int32) (m_ranSteps : Int32) (m_isTold : Bool) (m_marks : Int32) (m_at : Nat → Int32) (m_names : Nat → Int64) (m_sort : Nat → Int32) (m_trayMany : Nat → Int32) (m_trays : Nat → Int64) (m_tape : Nat → Int32) (m_text : Nat → Int32) (m_opened : Nat → Int32) (m_beside : Nat → Int32) (m_then : Nat → Int32) (m_ways : Nat → Int64) (m_further : Nat → Int64) (m_canBe : Nat → Int32) (m_loops : Nat → Int32) (m_ran : Nat → Int32) (m_told0 : Nat → Int32) (sz : Nat) : Met l yX7_pictures (ws_ yX7_pictures cX7_pictures 1 (some .long)) (zR 2 0 0) (zPm G sz [.ref (ad 0)] (mW G ad m_status m_top m_bottom m_taped m_size m_token m_from m_end m_value m_faultKind m_faultPlace m_faults m_seen m_depth m_counted m_lead m_round m_tried m_triedMany m_drawn m_ranSteps m_isTold m_marks m_at m_names m_sort m_trayMany m_trays m_tape m_text m_opened m_beside m_then m_ways m_further m_canBe m_loops m_ran m_told0)) (zQm G (True) (some (.long ((mf_pictures m_at).1))) (mW G ad ((mf_pictures m_at).2) m_top m_bottom m_taped m_size m_token m_from m_end m_value m_faultKind m_faultPlace m_faults m_seen m_depth m_counted m_lead m_round m_tried m_triedMany m_drawn m_ranSteps m_isTold m_marks m_at m_names m_sort m_trayMany m_trays m_tape m_text m_opened m_beside m_then m_ways m_further m_canBe m_loops m_ran m_told0) (va_A (mW G ad m_status m_top m_bottom m_taped m_size m_token m_from m_end m_value m_faultKind m_faultPlace m_faults m_seen m_depth m_counted m_lead m_round m_tried m_triedMany m_drawn m_ranSteps m_isTold m_marks m_at m_names m_sort m_trayMany m_trays m_tape m_text m_opened m_beside m_then m_ways m_further m_canBe m_loops m_ran m_told0) sz)) 0 0 (va_A (mW G ad m_status m_top m_bottom m_taped m_size m_token m_from m_end m_value m_faultKind m_faultPlace m_faults m_seen m_depth m_counted m_lead m_round m_tried m_triedMany m_drawn m_ranSteps m_isTold m_marks m_at m_names m_sort m_trayMany m_trays m_tape m_text m_opened m_beside m_then m_ways m_further m_canBe m_loops m_ran m_told0) sz) := by
  refine zr_entM (by decide) (Nat.le_of_ble_eq_true rfl) ?_
  intro p e s m below meth c ⟨hx, hb, hr, hml, hown, hts, hlocks, hnm⟩ ls hl hP hK A hE hA hD hS
  have hown : s.vm.findClass RX7 = some m.cls := hown
  have hl : lv_has ls 1 [(0, .ref (ad 0))] := hl
  obtain ⟨H, hH⟩ : ∃ H, H = s.heap := ⟨_, rfl⟩
  obtain ⟨locs, hlo⟩ : ∃ L : List Loc, L = [] := ⟨_, rfl⟩
  rw [← hH] at hP
  have hS : va_S A s.heap H locs := by rw [hH, hlo]; exact va_S.rf
  have hgo : W p l e (zR 2 0 0) s m ([.ref (ad 0)] : List Value).toArray below meth c H locs 0 0 (MQ below (zQm G (True) (some (.long ((mf_pictures m_at).1))) (mW G ad ((mf_pictures m_at).2) m_top m_bottom m_taped m_size m_token m_from m_end m_value m_faultKind m_faultPlace m_faults m_seen m_depth m_counted m_lead m_round m_tried m_triedMany m_drawn m_ranSteps m_isTold m_marks m_at m_names m_sort m_trayMany m_trays m_tape m_text m_opened m_beside m_then m_ways m_further m_canBe m_loops m_ran m_told0) A) ([.ref (ad 0)] : List Value).toArray s 0 0 A) (F0 m 0 ls []) := ?_
  · rw [hH, hlo] at hgo; exact hgo
  clear hH hlo
  refine lv_aload_n hx hb dX7_pictures_0 rfl (lv_at hl 0 rfl) ?_
  refine lv_lconst (v := 1) hx hb dX7_pictures_1 rfl ?_
  refine lv_aload_n hx hb dX7_pictures_2 rfl (lv_at hl 0 rfl) ?_
  refine zr_obV ⟨hx, hb, hml, hown, hts⟩ (mt_mf_free l G ad m_status m_top m_bottom m_taped m_size m_token m_from m_end m_value m_faultKind m_faultPlace m_faults m_seen m_depth m_counted m_lead m_round m_tried m_triedMany m_drawn m_ranSteps m_isTold m_marks m_at m_names m_sort m_trayMany m_trays m_tape m_text m_opened m_beside m_then m_ways m_further m_canBe m_loops m_ran m_told0) (cwV 0 hts (lw_V q1855 q1857 qs102 q144 q1858) rfl rfl rfl hd_X7_free ⟨(Nat.le_of_ble_eq_true rfl), (Nat.le_of_ble_eq_true rfl)⟩) hP hK (zE_o hE hS) 0 7 rfl rfl rfl hl.1 rfl (Nat.le_of_ble_eq_true rfl) dX7_pictures_3 ⟨Nat.le_refl _, Nat.le_refl _⟩ ?_
  refine zr_puS ⟨hx, hb, hml, hown, hts⟩ (mt_bitsN l (mf_free m_at)) (va_cwS 1 hts (lw_S q1744 q1745 q144 q1746) rfl rfl rfl hd_X7_bits.2 ⟨(Nat.le_of_ble_eq_true rfl), (Nat.le_of_ble_eq_true rfl)⟩) rfl hl.1 rfl (Nat.le_of_ble_eq_true rfl) dX7_pictures_6 ⟨Nat.le_refl _, Nat.le_refl _⟩ ?_
  refine lv_lshl hx hb dX7_pictures_9 rfl ?_
  refine zr_muV (F := ()) (ff := fun _ => True) (rr := fun _ => some (.long ((1 : Int64) <<< ((nI (zpc (mf_free m_at))).toInt64 &&& 63)))) (w1 := fun _ => (mW G ad 0 m_top m_bottom m_taped m_size m_token m_from m_end m_value m_faultKind m_faultPlace m_faults m_seen m_depth m_counted m_lead m_round m_tried m_triedMany m_drawn m_ranSteps m_isTold m_marks m_at m_names m_sort m_trayMany m_trays m_tape m_text m_opened m_beside m_then m_ways m_further m_canBe m_loops m_ran m_told0)) ⟨hx, hb, hml, hown, hts⟩ (mt_mf_givesLong l G ad m_status m_top m_bottom m_taped m_size m_token m_from m_end m_value m_faultKind m_faultPlace m_faults m_seen m_depth m_counted m_lead m_round m_tried m_triedMany m_drawn m_ranSteps m_isTold m_marks m_at m_names m_sort m_trayMany m_trays m_tape m_text m_opened m_beside m_then m_ways m_further m_canBe m_loops m_ran m_told0 ((1 : Int64) <<< ((nI (zpc (mf_free m_at))).toInt64 &&& 63)) H.size) (cwV 1 hts (lw_V q1791 q1793 qs92 q144 q1794) rfl rfl rfl hd_X7_givesLong ⟨(Nat.le_of_ble_eq_true rfl), (Nat.le_of_ble_eq_true rfl)⟩) hP hD hS hA hK hE 0 7 rfl rfl rfl hl.1 rfl (Nat.le_of_ble_eq_true rfl) dX7_pictures_10 ⟨Nat.le_refl _, Nat.le_refl _⟩ (fun _ _ _ H locs hP hD hS _ => ?_)
  refine W.eq (g2 := F0 m 13 ls [.long ((1 : Int64) <<< ((nI (zpc (mf_free m_at))).toInt64 &&& 63))]) rfl ?_
  have e_ : mf_pictures m_at = ((1 : Int64) <<< ((nI (zpc (mf_free m_at))).toInt64 &&& 63), 0) := by rw [mf_pictures]
  exact zr_ml hx hb hr hlocks hP hD hS dX7_pictures_13 (by rw [e_])  (by rw [e_]) trivial
def mf_seen (m_at : Nat → Int32) (state : Int32) (nb : Int32) : Int32 × Int32 :=
  (if (mf_isFrom state.toInt64 0 1) = true then
    (if (mf_isFrom nb.toInt64 0 4) = true then
      (m_at (32 + (5 * state.toNatClampNeg) + nb.toNatClampNeg), 0)
    else
      ((-1), 1))
  else
    ((-1), 1))
theorem hd_X7_seen : yX7_seen.cls = RX7 ∧ yX7_seen.cls ≠ "java/lang/invoke/MethodHandle" ∧ yX7_seen.cls ≠ "java/lang/invoke/VarHandle" ∧ (parseMethodDescriptor yX7_seen.desc).map (fun d => d.parameters.length) = some 2 := by decide +kernel
set_option maxHeartbeats 4000000 in
set_option maxRecDepth 100000 in
theorem mt_mf_seen (l : Launch) (G : zG) (ad : Nat → Nat) (m_status : Int32) (m_top : Int64) (m_bottom : Int64) (m_taped : Int32) (m_size : Int32) (m_token : Int32) (m_from : Int32) (m_end : Int32) (m_value : Int32) (m_faultKind : Int32) (m_faultPlace : Int32) (m_faults : Int32) (m_seen : Int32) (m_depth : Int32) (m_counted : Int32) (m_lead : Int32) (m_round : Int32) (m_tried : Int32) (m_triedMany : Int32) (m_drawn : Int32) (m_ranSteps : Int32) (m_isTold : Bool) (m_marks : Int32) (m_at : Nat → Int32) (m_names : Nat → Int64) (m_sort : Nat → Int32) (m_trayMany : Nat → Int32) (m_trays : Nat → Int64) (m_tape : Nat → Int32) (m_text : Nat → Int32) (m_opened : Nat → Int32) (m_beside : Nat → Int32) (m_then : Nat → Int32) (m_ways : Nat → Int64) (m_further : Nat → Int64) (m_canBe : Nat → Int32) (m_loops : Nat → Int32) (m_ran : Nat → Int32) (m_told0 : Nat → Int32) (state : Int32) (nb : Int32) (sz : Nat) : Met l yX7_seen (ws_ yX7_seen cX7_seen 3 (some .int)) (zR 2 0 0) (zPm G sz [.ref (ad 0), .int state, .int nb] (mW G ad m_status m_top m_bottom m_taped m_size m_token m_from m_end m_value m_faultKind m_faultPlace m_faults m_seen m_depth m_counted m_lead m_round m_tried m_triedMany m_drawn m_ranSteps m_isTold m_marks m_at m_names m_sort m_trayMany m_trays m_tape m_text m_opened m_beside m_then m_ways m_further m_canBe m_loops m_ran m_told0)) (zQm G (True) (some (.int ((mf_seen m_at state nb).1))) (mW G ad ((mf_seen m_at state nb).2) m_top m_bottom m_taped m_size m_token m_from m_end m_value m_faultKind m_faultPlace m_faults m_seen m_depth m_counted m_lead m_round m_tried m_triedMany m_drawn m_ranSteps m_isTold m_marks m_at m_names m_sort m_trayMany m_trays m_tape m_text m_opened m_beside m_then m_ways m_further m_canBe m_loops m_ran m_told0) (va_A (mW G ad m_status m_top m_bottom m_taped m_size m_token m_from m_end m_value m_faultKind m_faultPlace m_faults m_seen m_depth m_counted m_lead m_round m_tried m_triedMany m_drawn m_ranSteps m_isTold m_marks m_at m_names m_sort m_trayMany m_trays m_tape m_text m_opened m_beside m_then m_ways m_further m_canBe m_loops m_ran m_told0) sz)) 0 0 (va_A (mW G ad m_status m_top m_bottom m_taped m_size m_token m_from m_end m_value m_faultKind m_faultPlace m_faults m_seen m_depth m_counted m_lead m_round m_tried m_triedMany m_drawn m_ranSteps m_isTold m_marks m_at m_names m_sort m_trayMany m_trays m_tape m_text m_opened m_beside m_then m_ways m_further m_canBe m_loops m_ran m_told0) sz) := by
  refine zr_entM (by decide) (Nat.le_of_ble_eq_true rfl) ?_
  intro p e s m below meth c ⟨hx, hb, hr, hml, hown, hts, hlocks, hnm⟩ ls hl hP hK A hE hA hD hS
  have hown : s.vm.findClass RX7 = some m.cls := hown
  have hl : lv_has ls 3 [(0, .ref (ad 0)), (1, .int state), (2, .int nb)] := hl
  obtain ⟨H, hH⟩ : ∃ H, H = s.heap := ⟨_, rfl⟩
  obtain ⟨locs, hlo⟩ : ∃ L : List Loc, L = [] := ⟨_, rfl⟩
  rw [← hH] at hP
  have hS : va_S A s.heap H locs := by rw [hH, hlo]; exact va_S.rf
  have hgo : W p l e (zR 2 0 0) s m ([.ref (ad 0), .int state, .int nb] : List Value).toArray below meth c H locs 0 0 (MQ below (zQm G (True) (some (.int ((mf_seen m_at state nb).1))) (mW G ad ((mf_seen m_at state nb).2) m_top m_bottom m_taped m_size m_token m_from m_end m_value m_faultKind m_faultPlace m_faults m_seen m_depth m_counted m_lead m_round m_tried m_triedMany m_drawn m_ranSteps m_isTold m_marks m_at m_names m_sort m_trayMany m_trays m_tape m_text m_opened m_beside m_then m_ways m_further m_canBe m_loops m_ran m_told0) A) ([.ref (ad 0), .int state, .int nb] : List Value).toArray s 0 0 A) (F0 m 0 ls []) := ?_
  · rw [hH, hlo] at hgo; exact hgo
  clear hH hlo
  refine lv_iload_n hx hb dX7_seen_0 rfl (lv_at hl 1 rfl) ?_
  refine lv_i2l hx hb dX7_seen_1 rfl ?_
  refine lv_lconst (v := 0) hx hb dX7_seen_2 rfl ?_
  refine lv_lconst (v := 1) hx hb dX7_seen_3 rfl ?_
  refine zr_puS ⟨hx, hb, hml, hown, hts⟩ (mt_mf_isFrom l state.toInt64 0 1) (va_cwS 3 hts (lw_S q1848 q1849 q144 q1850) rfl rfl rfl hd_X7_isFrom.2 ⟨(Nat.le_of_ble_eq_true rfl), (Nat.le_of_ble_eq_true rfl)⟩) rfl hl.1 rfl (Nat.le_of_ble_eq_true rfl) dX7_seen_4 ⟨Nat.le_refl _, Nat.le_refl _⟩ ?_
  refine zr_eqB (mf_isFrom state.toInt64 0 1) (tgt := 42) hx hb dX7_seen_7 (by decide) (fun c_1 => ?_) (fun c_1 => ?_)
  · refine lv_aload_n hx hb dX7_seen_42 rfl (lv_at hl 0 rfl) ?_
    refine lv_iconst (v := 1) hx hb dX7_seen_43 (by decide) ?_
    refine zr_muV (F := ()) (ff := fun _ => True) (rr := fun _ => some (.int (-1))) (w1 := fun _ => (mW G ad 1 m_top m_bottom m_taped m_size m_token m_from m_end m_value m_faultKind m_faultPlace m_faults m_seen m_depth m_counted m_lead m_round m_tried m_triedMany m_drawn m_ranSteps m_isTold m_marks m_at m_names m_sort m_trayMany m_trays m_tape m_text m_opened m_beside m_then m_ways m_further m_canBe m_loops m_ran m_told0)) ⟨hx, hb, hml, hown, hts⟩ (mt_mf_refuse l G ad m_status m_top m_bottom m_taped m_size m_token m_from m_end m_value m_faultKind m_faultPlace m_faults m_seen m_depth m_counted m_lead m_round m_tried m_triedMany m_drawn m_ranSteps m_isTold m_marks m_at m_names m_sort m_trayMany m_trays m_tape m_text m_opened m_beside m_then m_ways m_further m_canBe m_loops m_ran m_told0 1 H.size) (cwV 1 hts (lw_V q1666 q1668 qs66 q144 q1669) rfl rfl rfl hd_X7_refuse ⟨(Nat.le_of_ble_eq_true rfl), (Nat.le_of_ble_eq_true rfl)⟩) hP hD hS hA hK hE 0 7 rfl rfl rfl hl.1 rfl (Nat.le_of_ble_eq_true rfl) dX7_seen_44 ⟨Nat.le_refl _, Nat.le_refl _⟩ (fun _ _ _ H locs hP hD hS _ => ?_)
    refine W.eq (g2 := F0 m 47 ls [.int (-1)]) rfl ?_
    have e_ : mf_seen m_at state nb = ((-1), 1) := by rw [mf_seen, if_neg c_1]
    exact zr_mi hx hb hr hlocks hP hD hS dX7_seen_47 (by rw [e_])  (by rw [e_]) trivial
  · obtain ⟨hs0, hs1, hs2⟩ := isFrom_t (a := 0) (N := 1) (by decide) (by decide) c_1
    refine lv_iload_n hx hb dX7_seen_10 rfl (lv_at hl 2 rfl) ?_
    refine lv_i2l hx hb dX7_seen_11 rfl ?_
    refine lv_lconst (v := 0) hx hb dX7_seen_12 rfl ?_
    refine lv_ldc2 (v := 4) hx hb hown (hts _ q2029) dX7_seen_13 ?_
    refine zr_puS ⟨hx, hb, hml, hown, hts⟩ (mt_mf_isFrom l nb.toInt64 0 4) (va_cwS 3 hts (lw_S q1848 q1849 q144 q1850) rfl rfl rfl hd_X7_isFrom.2 ⟨(Nat.le_of_ble_eq_true rfl), (Nat.le_of_ble_eq_true rfl)⟩) rfl hl.1 rfl (Nat.le_of_ble_eq_true rfl) dX7_seen_16 ⟨Nat.le_refl _, Nat.le_refl _⟩ ?_
    refine zr_eqB (mf_isFrom nb.toInt64 0 4) (tgt := 42) hx hb dX7_seen_19 (by decide) (fun c_3 => ?_) (fun c_3 => ?_)
    · refine lv_aload_n hx hb dX7_seen_42 rfl (lv_at hl 0 rfl) ?_
      refine lv_iconst (v := 1) hx hb dX7_seen_43 (by decide) ?_
      refine zr_muV (F := ()) (ff := fun _ => True) (rr := fun _ => some (.int (-1))) (w1 := fun _ => (mW G ad 1 m_top m_bottom m_taped m_size m_token m_from m_end m_value m_faultKind m_faultPlace m_faults m_seen m_depth m_counted m_lead m_round m_tried m_triedMany m_drawn m_ranSteps m_isTold m_marks m_at m_names m_sort m_trayMany m_trays m_tape m_text m_opened m_beside m_then m_ways m_further m_canBe m_loops m_ran m_told0)) ⟨hx, hb, hml, hown, hts⟩ (mt_mf_refuse l G ad m_status m_top m_bottom m_taped m_size m_token m_from m_end m_value m_faultKind m_faultPlace m_faults m_seen m_depth m_counted m_lead m_round m_tried m_triedMany m_drawn m_ranSteps m_isTold m_marks m_at m_names m_sort m_trayMany m_trays m_tape m_text m_opened m_beside m_then m_ways m_further m_canBe m_loops m_ran m_told0 1 H.size) (cwV 1 hts (lw_V q1666 q1668 qs66 q144 q1669) rfl rfl rfl hd_X7_refuse ⟨(Nat.le_of_ble_eq_true rfl), (Nat.le_of_ble_eq_true rfl)⟩) hP hD hS hA hK hE 0 7 rfl rfl rfl hl.1 rfl (Nat.le_of_ble_eq_true rfl) dX7_seen_44 ⟨Nat.le_refl _, Nat.le_refl _⟩ (fun _ _ _ H locs hP hD hS _ => ?_)
      refine W.eq (g2 := F0 m 47 ls [.int (-1)]) rfl ?_
      have e_ : mf_seen m_at state nb = ((-1), 1) := by rw [mf_seen, if_pos c_1, if_neg c_3]
      exact zr_mi hx hb hr hlocks hP hD hS dX7_seen_47 (by rw [e_])  (by rw [e_]) trivial
    · obtain ⟨hn0, hn1, hn2⟩ := isFrom_t (a := 0) (N := 4) (by decide) (by decide) c_3
      refine lv_aload_n hx hb dX7_seen_22 rfl (lv_at hl 0 rfl) ?_
      refine lv_aload_n hx hb dX7_seen_23 rfl (lv_at hl 0 rfl) ?_
      refine va_get (D := G.1) (ci := 7) (v := .ref (ad 1)) (C := RX7) (T := TX7) (N := 39) hx hb hts in_X7 hown hK.1 hP 0 rfl rfl 0 (Nat.le_of_ble_eq_true rfl) (hts _ q1467) (fun _ h => h) rfl dX7_seen_24 ?_
      refine lv_bipush (v := 32) hx hb dX7_seen_27 (by decide) ?_
      refine lv_iconst (v := 5) hx hb dX7_seen_29 (by decide) ?_
      refine lv_iload_n hx hb dX7_seen_30 rfl (lv_at hl 1 rfl) ?_
      refine zr_val (congrArg Value.int (z_nn hs0)) ?_
      refine W.eq (g2 := F0 m 31 ls [.int (nI state.toNatClampNeg), .int 5, .int 32, .ref (ad 1), .ref (ad 0)]) rfl ?_
      refine zr_imulN 5 state.toNatClampNeg hx hb dX7_seen_31 ?_
      refine zr_iaddN 32 (5 * state.toNatClampNeg) hx hb dX7_seen_32 ?_
      refine lv_iload_n hx hb dX7_seen_33 rfl (lv_at hl 2 rfl) ?_
      refine zr_val (congrArg Value.int (z_nn hn0)) ?_
      refine W.eq (g2 := F0 m 34 ls [.int (nI nb.toNatClampNeg), .int (nI (32 + (5 * state.toNatClampNeg))), .ref (ad 1), .ref (ad 0)]) rfl ?_
      refine zr_iaddN (32 + (5 * state.toNatClampNeg)) nb.toNatClampNeg hx hb dX7_seen_34 ?_
      refine zr_val (v' := .int (nI (32 + (5 * state.toNatClampNeg) + nb.toNatClampNeg))) (by rfl) ?_
      refine zr_iald (32 + (5 * state.toNatClampNeg) + nb.toNatClampNeg) (v := m_at (32 + (5 * state.toNatClampNeg) + nb.toNatClampNeg)) hx hb hK hP 1 rfl rfl (Nat.le_of_ble_eq_true rfl) rfl (by omega) rfl dX7_seen_35 ?_
      refine zr_muV (F := ()) (ff := fun _ => True) (rr := fun _ => some (.int (m_at (32 + (5 * state.toNatClampNeg) + nb.toNatClampNeg)))) (w1 := fun _ => (mW G ad 0 m_top m_bottom m_taped m_size m_token m_from m_end m_value m_faultKind m_faultPlace m_faults m_seen m_depth m_counted m_lead m_round m_tried m_triedMany m_drawn m_ranSteps m_isTold m_marks m_at m_names m_sort m_trayMany m_trays m_tape m_text m_opened m_beside m_then m_ways m_further m_canBe m_loops m_ran m_told0)) ⟨hx, hb, hml, hown, hts⟩ (mt_mf_gives l G ad m_status m_top m_bottom m_taped m_size m_token m_from m_end m_value m_faultKind m_faultPlace m_faults m_seen m_depth m_counted m_lead m_round m_tried m_triedMany m_drawn m_ranSteps m_isTold m_marks m_at m_names m_sort m_trayMany m_trays m_tape m_text m_opened m_beside m_then m_ways m_further m_canBe m_loops m_ran m_told0 (m_at (32 + (5 * state.toNatClampNeg) + nb.toNatClampNeg)) H.size) (cwV 1 hts (lw_V q1751 q1753 qs85 q144 q1754) rfl rfl rfl hd_X7_gives ⟨(Nat.le_of_ble_eq_true rfl), (Nat.le_of_ble_eq_true rfl)⟩) hP hD hS hA hK hE 0 7 rfl rfl rfl hl.1 rfl (Nat.le_of_ble_eq_true rfl) dX7_seen_36 ⟨Nat.le_refl _, Nat.le_refl _⟩ (fun _ _ _ H locs hP hD hS _ => ?_)
      refine W.eq (g2 := F0 m 39 ls [.int (m_at (32 + (5 * state.toNatClampNeg) + nb.toNatClampNeg))]) rfl ?_
      refine lv_goto (tgt := 47) hx hb dX7_seen_39 (by decide) ?_
      have e_ : mf_seen m_at state nb = (m_at (32 + (5 * state.toNatClampNeg) + nb.toNatClampNeg), 0) := by rw [mf_seen, if_pos c_1, if_pos c_3]
      exact zr_mi hx hb hr hlocks hP hD hS dX7_seen_47 (by rw [e_])  (by rw [e_]) trivial
def mf_rulesLeft_B4 (m_at : Nat → Int32) (k_1 : Nat) (s_1 : Int32) : Int32 :=
  (if (m_at (32 + k_1)) = 0 then
    s_1 * 2
  else
    (if (m_at (32 + k_1)) = 3 then
      s_1 * 0
    else
      s_1 * 1))
def mf_rulesLeft_L4 (m_at : Nat → Int32) (s_1 : Int32) : Int32 := zf (mf_rulesLeft_B4 m_at) s_1 10
def mf_rulesLeft (m_at : Nat → Int32) : Int32 × Int32 :=
  zlet (mf_rulesLeft_L4 m_at 1) (fun s_1 =>
  (s_1, 0))
theorem hd_X7_rulesLeft : yX7_rulesLeft.cls = RX7 ∧ yX7_rulesLeft.cls ≠ "java/lang/invoke/MethodHandle" ∧ yX7_rulesLeft.cls ≠ "java/lang/invoke/VarHandle" ∧ (parseMethodDescriptor yX7_rulesLeft.desc).map (fun d => d.parameters.length) = some 0 := by decide +kernel
set_option maxHeartbeats 4000000 in
set_option maxRecDepth 100000 in
theorem mt_mf_rulesLeft (l : Launch) (G : zG) (ad : Nat → Nat) (m_status : Int32) (m_top : Int64) (m_bottom : Int64) (m_taped : Int32) (m_size : Int32) (m_token : Int32) (m_from : Int32) (m_end : Int32) (m_value : Int32) (m_faultKind : Int32) (m_faultPlace : Int32) (m_faults : Int32) (m_seen : Int32) (m_depth : Int32) (m_counted : Int32) (m_lead : Int32) (m_round : Int32) (m_tried : Int32) (m_triedMany : Int32) (m_drawn : Int32) (m_ranSteps : Int32) (m_isTold : Bool) (m_marks : Int32) (m_at : Nat → Int32) (m_names : Nat → Int64) (m_sort : Nat → Int32) (m_trayMany : Nat → Int32) (m_trays : Nat → Int64) (m_tape : Nat → Int32) (m_text : Nat → Int32) (m_opened : Nat → Int32) (m_beside : Nat → Int32) (m_then : Nat → Int32) (m_ways : Nat → Int64) (m_further : Nat → Int64) (m_canBe : Nat → Int32) (m_loops : Nat → Int32) (m_ran : Nat → Int32) (m_told0 : Nat → Int32) (sz : Nat) : Met l yX7_rulesLeft (ws_ yX7_rulesLeft cX7_rulesLeft 3 (some .int)) (zR 2 0 0) (zPm G sz [.ref (ad 0)] (mW G ad m_status m_top m_bottom m_taped m_size m_token m_from m_end m_value m_faultKind m_faultPlace m_faults m_seen m_depth m_counted m_lead m_round m_tried m_triedMany m_drawn m_ranSteps m_isTold m_marks m_at m_names m_sort m_trayMany m_trays m_tape m_text m_opened m_beside m_then m_ways m_further m_canBe m_loops m_ran m_told0)) (zQm G (True) (some (.int ((mf_rulesLeft m_at).1))) (mW G ad ((mf_rulesLeft m_at).2) m_top m_bottom m_taped m_size m_token m_from m_end m_value m_faultKind m_faultPlace m_faults m_seen m_depth m_counted m_lead m_round m_tried m_triedMany m_drawn m_ranSteps m_isTold m_marks m_at m_names m_sort m_trayMany m_trays m_tape m_text m_opened m_beside m_then m_ways m_further m_canBe m_loops m_ran m_told0) (va_A (mW G ad m_status m_top m_bottom m_taped m_size m_token m_from m_end m_value m_faultKind m_faultPlace m_faults m_seen m_depth m_counted m_lead m_round m_tried m_triedMany m_drawn m_ranSteps m_isTold m_marks m_at m_names m_sort m_trayMany m_trays m_tape m_text m_opened m_beside m_then m_ways m_further m_canBe m_loops m_ran m_told0) sz)) 0 0 (va_A (mW G ad m_status m_top m_bottom m_taped m_size m_token m_from m_end m_value m_faultKind m_faultPlace m_faults m_seen m_depth m_counted m_lead m_round m_tried m_triedMany m_drawn m_ranSteps m_isTold m_marks m_at m_names m_sort m_trayMany m_trays m_tape m_text m_opened m_beside m_then m_ways m_further m_canBe m_loops m_ran m_told0) sz) := by
  refine zr_entM (by decide) (Nat.le_of_ble_eq_true rfl) ?_
  intro p e s m below meth c ⟨hx, hb, hr, hml, hown, hts, hlocks, hnm⟩ ls hl hP hK A hE hA hD hS
  have hown : s.vm.findClass RX7 = some m.cls := hown
  have hl : lv_has ls 3 [(0, .ref (ad 0))] := hl
  obtain ⟨H, hH⟩ : ∃ H, H = s.heap := ⟨_, rfl⟩
  obtain ⟨locs, hlo⟩ : ∃ L : List Loc, L = [] := ⟨_, rfl⟩
  rw [← hH] at hP
  have hS : va_S A s.heap H locs := by rw [hH, hlo]; exact va_S.rf
  have hgo : W p l e (zR 2 0 0) s m ([.ref (ad 0)] : List Value).toArray below meth c H locs 0 0 (MQ below (zQm G (True) (some (.int ((mf_rulesLeft m_at).1))) (mW G ad ((mf_rulesLeft m_at).2) m_top m_bottom m_taped m_size m_token m_from m_end m_value m_faultKind m_faultPlace m_faults m_seen m_depth m_counted m_lead m_round m_tried m_triedMany m_drawn m_ranSteps m_isTold m_marks m_at m_names m_sort m_trayMany m_trays m_tape m_text m_opened m_beside m_then m_ways m_further m_canBe m_loops m_ran m_told0) A) ([.ref (ad 0)] : List Value).toArray s 0 0 A) (F0 m 0 ls []) := ?_
  · rw [hH, hlo] at hgo; exact hgo
  clear hH hlo
  refine lv_iconst (v := 1) hx hb dX7_rulesLeft_0 (by decide) ?_
  refine lv_istore_n (lv' := [(1, .int 1), (0, .ref (ad 0))]) hx hb dX7_rulesLeft_1 rfl hl (by decide) rfl (fun ls hl => ?_)
  refine lv_iconst (v := 0) hx hb dX7_rulesLeft_2 (by decide) ?_
  refine lv_istore_n (lv' := [(2, .int 0), (1, .int 1), (0, .ref (ad 0))]) hx hb dX7_rulesLeft_3 rfl hl (by decide) rfl (fun ls hl => ?_)
  have hlp_1 : ∀ (n k_1 : Nat) (s_1 : Int32), k_1 ≤ 10 → 10 < k_1 + n → zf (mf_rulesLeft_B4 m_at) 1 k_1 = s_1 → ∀ (H : Heap) (locs : List Loc), va_P G.1 zcl (mW G ad m_status m_top m_bottom m_taped m_size m_token m_from m_end m_value m_faultKind m_faultPlace m_faults m_seen m_depth m_counted m_lead m_round m_tried m_triedMany m_drawn m_ranSteps m_isTold m_marks m_at m_names m_sort m_trayMany m_trays m_tape m_text m_opened m_beside m_then m_ways m_further m_canBe m_loops m_ran m_told0) H → va_D A (mW G ad m_status m_top m_bottom m_taped m_size m_token m_from m_end m_value m_faultKind m_faultPlace m_faults m_seen m_depth m_counted m_lead m_round m_tried m_triedMany m_drawn m_ranSteps m_isTold m_marks m_at m_names m_sort m_trayMany m_trays m_tape m_text m_opened m_beside m_then m_ways m_further m_canBe m_loops m_ran m_told0) → va_S A s.heap H locs → ∀ ls : Array Slot, lv_has ls 3 [(2, .int (nI k_1)), (1, .int s_1), (0, .ref (ad 0))] → W p l e (zR 2 0 0) s m ([.ref (ad 0)] : List Value).toArray below meth c H locs 0 0 (MQ below (zQm G (True) (some (.int ((mf_rulesLeft m_at).1))) (mW G ad ((mf_rulesLeft m_at).2) m_top m_bottom m_taped m_size m_token m_from m_end m_value m_faultKind m_faultPlace m_faults m_seen m_depth m_counted m_lead m_round m_tried m_triedMany m_drawn m_ranSteps m_isTold m_marks m_at m_names m_sort m_trayMany m_trays m_tape m_text m_opened m_beside m_then m_ways m_further m_canBe m_loops m_ran m_told0) A) ([.ref (ad 0)] : List Value).toArray s 0 0 A) (F0 m 4 ls []) := by
    intro n
    induction n with
    | zero => intro k_1 s_1 h1 h2; exact absurd h2 (by omega)
    | succ n ih_1 =>
      intro k_1 s_1 hk_1 hn_1 hst_1 H locs hP hD hS ls hl
      refine lv_iload_n hx hb dX7_rulesLeft_4 rfl (lv_at hl 0 rfl) ?_
      refine lv_bipush (v := 10) hx hb dX7_rulesLeft_5 (by decide) ?_
      refine zr_ge k_1 10 (by omega) (by decide) (tgt := 53) hx hb dX7_rulesLeft_7 (by decide) (fun c_1 => ?_) (fun c_1 => ?_)
      · have ek_1 : k_1 = 10 := Nat.le_antisymm hk_1 c_1
        have hs_1 : mf_rulesLeft_L4 m_at 1 = s_1 := by rw [ek_1] at hst_1; exact hst_1
        have hl := lv_sub hl (l' := _) [1, 2] rfl
        refine lv_aload_n hx hb dX7_rulesLeft_53 rfl (lv_at hl 1 rfl) ?_
        refine lv_iload_n hx hb dX7_rulesLeft_54 rfl (lv_at hl 0 rfl) ?_
        refine zr_muV (F := ()) (ff := fun _ => True) (rr := fun _ => some (.int s_1)) (w1 := fun _ => (mW G ad 0 m_top m_bottom m_taped m_size m_token m_from m_end m_value m_faultKind m_faultPlace m_faults m_seen m_depth m_counted m_lead m_round m_tried m_triedMany m_drawn m_ranSteps m_isTold m_marks m_at m_names m_sort m_trayMany m_trays m_tape m_text m_opened m_beside m_then m_ways m_further m_canBe m_loops m_ran m_told0)) ⟨hx, hb, hml, hown, hts⟩ (mt_mf_gives l G ad m_status m_top m_bottom m_taped m_size m_token m_from m_end m_value m_faultKind m_faultPlace m_faults m_seen m_depth m_counted m_lead m_round m_tried m_triedMany m_drawn m_ranSteps m_isTold m_marks m_at m_names m_sort m_trayMany m_trays m_tape m_text m_opened m_beside m_then m_ways m_further m_canBe m_loops m_ran m_told0 s_1 H.size) (cwV 1 hts (lw_V q1751 q1753 qs85 q144 q1754) rfl rfl rfl hd_X7_gives ⟨(Nat.le_of_ble_eq_true rfl), (Nat.le_of_ble_eq_true rfl)⟩) hP hD hS hA hK hE 0 7 rfl rfl rfl hl.1 rfl (Nat.le_of_ble_eq_true rfl) dX7_rulesLeft_55 ⟨Nat.le_refl _, Nat.le_refl _⟩ (fun _ _ _ H locs hP hD hS _ => ?_)
        refine W.eq (g2 := F0 m 58 ls [.int s_1]) rfl ?_
        have e_ : mf_rulesLeft m_at = (s_1, 0) := by rw [mf_rulesLeft, zlet_eq hs_1]
        exact zr_mi hx hb hr hlocks hP hD hS dX7_rulesLeft_58 (by rw [e_])  (by rw [e_]) trivial
      · have hlt_1 : k_1 < 10 := Nat.lt_of_not_le c_1
        refine lv_iload_n hx hb dX7_rulesLeft_10 rfl (lv_at hl 1 rfl) ?_
        refine lv_aload_n hx hb dX7_rulesLeft_11 rfl (lv_at hl 2 rfl) ?_
        refine va_get (D := G.1) (ci := 7) (v := .ref (ad 1)) (C := RX7) (T := TX7) (N := 39) hx hb hts in_X7 hown hK.1 hP 0 rfl rfl 0 (Nat.le_of_ble_eq_true rfl) (hts _ q1467) (fun _ h => h) rfl dX7_rulesLeft_12 ?_
        refine lv_bipush (v := 32) hx hb dX7_rulesLeft_15 (by decide) ?_
        refine lv_iload_n hx hb dX7_rulesLeft_17 rfl (lv_at hl 0 rfl) ?_
        refine zr_iaddN 32 k_1 hx hb dX7_rulesLeft_18 ?_
        refine zr_iald (32 + k_1) (v := m_at (32 + k_1)) hx hb hK hP 1 rfl rfl (Nat.le_of_ble_eq_true rfl) rfl (by omega) rfl dX7_rulesLeft_19 ?_
        refine lv_if_ne (tgt := 27) hx hb dX7_rulesLeft_20 (by decide) (fun c_2 => ?_) (fun c_2 => ?_)
        · refine lv_aload_n hx hb dX7_rulesLeft_27 rfl (lv_at hl 2 rfl) ?_
          refine va_get (D := G.1) (ci := 7) (v := .ref (ad 1)) (C := RX7) (T := TX7) (N := 39) hx hb hts in_X7 hown hK.1 hP 0 rfl rfl 0 (Nat.le_of_ble_eq_true rfl) (hts _ q1467) (fun _ h => h) rfl dX7_rulesLeft_28 ?_
          refine lv_bipush (v := 32) hx hb dX7_rulesLeft_31 (by decide) ?_
          refine lv_iload_n hx hb dX7_rulesLeft_33 rfl (lv_at hl 0 rfl) ?_
          refine zr_iaddN 32 k_1 hx hb dX7_rulesLeft_34 ?_
          refine zr_iald (32 + k_1) (v := m_at (32 + k_1)) hx hb hK hP 1 rfl rfl (Nat.le_of_ble_eq_true rfl) rfl (by omega) rfl dX7_rulesLeft_35 ?_
          refine lv_iconst (v := 3) hx hb dX7_rulesLeft_36 (by decide) ?_
          refine lv_icmp_ne (tgt := 44) hx hb dX7_rulesLeft_37 (by decide) (fun c_3 => ?_) (fun c_3 => ?_)
          · refine lv_iconst (v := 1) hx hb dX7_rulesLeft_44 (by decide) ?_
            refine lv_imul hx hb dX7_rulesLeft_45 ?_
            refine lv_istore_n (lv' := [(1, .int (s_1 * 1)), (2, .int (nI k_1)), (0, .ref (ad 0))]) hx hb dX7_rulesLeft_46 rfl hl (by decide) rfl (fun ls hl => ?_)
            refine lv_iinc (v := nI (k_1 + 1)) (lv' := [(2, .int (nI (k_1 + 1))), (1, .int (s_1 * 1)), (0, .ref (ad 0))]) hx hb dX7_rulesLeft_47 hl (k := 1) rfl (nI_add k_1 1) (by decide) rfl (fun ls hl => ?_)
            refine lv_goto (tgt := 4) hx hb dX7_rulesLeft_50 (by decide) ?_
            exact ih_1 (k_1 + 1) (s_1 * 1) hlt_1 (by omega) (zf_s hst_1 (by rw [mf_rulesLeft_B4, if_neg c_2, if_neg c_3])) H locs hP hD hS ls (lv_sub hl [0, 1, 2] rfl)
          · refine lv_iconst (v := 0) hx hb dX7_rulesLeft_40 (by decide) ?_
            refine lv_goto (tgt := 45) hx hb dX7_rulesLeft_41 (by decide) ?_
            refine lv_imul hx hb dX7_rulesLeft_45 ?_
            refine lv_istore_n (lv' := [(1, .int (s_1 * 0)), (2, .int (nI k_1)), (0, .ref (ad 0))]) hx hb dX7_rulesLeft_46 rfl hl (by decide) rfl (fun ls hl => ?_)
            refine lv_iinc (v := nI (k_1 + 1)) (lv' := [(2, .int (nI (k_1 + 1))), (1, .int (s_1 * 0)), (0, .ref (ad 0))]) hx hb dX7_rulesLeft_47 hl (k := 1) rfl (nI_add k_1 1) (by decide) rfl (fun ls hl => ?_)
            refine lv_goto (tgt := 4) hx hb dX7_rulesLeft_50 (by decide) ?_
            exact ih_1 (k_1 + 1) (s_1 * 0) hlt_1 (by omega) (zf_s hst_1 (by rw [mf_rulesLeft_B4, if_neg c_2, if_pos c_3])) H locs hP hD hS ls (lv_sub hl [0, 1, 2] rfl)
        · refine lv_iconst (v := 2) hx hb dX7_rulesLeft_23 (by decide) ?_
          refine lv_goto (tgt := 45) hx hb dX7_rulesLeft_24 (by decide) ?_
          refine lv_imul hx hb dX7_rulesLeft_45 ?_
          refine lv_istore_n (lv' := [(1, .int (s_1 * 2)), (2, .int (nI k_1)), (0, .ref (ad 0))]) hx hb dX7_rulesLeft_46 rfl hl (by decide) rfl (fun ls hl => ?_)
          refine lv_iinc (v := nI (k_1 + 1)) (lv' := [(2, .int (nI (k_1 + 1))), (1, .int (s_1 * 2)), (0, .ref (ad 0))]) hx hb dX7_rulesLeft_47 hl (k := 1) rfl (nI_add k_1 1) (by decide) rfl (fun ls hl => ?_)
          refine lv_goto (tgt := 4) hx hb dX7_rulesLeft_50 (by decide) ?_
          exact ih_1 (k_1 + 1) (s_1 * 2) hlt_1 (by omega) (zf_s hst_1 (by rw [mf_rulesLeft_B4, if_pos c_2])) H locs hP hD hS ls (lv_sub hl [0, 1, 2] rfl)
  exact hlp_1 (10 + 1) 0 1 (Nat.zero_le _) (by omega) rfl H locs hP hD hS ls (lv_sub hl [0, 1, 2] rfl)
def mf_fits_B19 (m_at : Nat → Int32) (k_1 : Nat) (k_2 : Nat) (s_2 : Bool) : Bool :=
  (if s_2 = true then
    (if ((m_at (32 + k_2)) &&& (((1 : Int32) <<< ((((m_at (12 + (2 * k_1) + (k_2 / 5))) >>> ((nI (k_2 % 5)) &&& 31)) &&& 1) &&& 31)) ^^^ (-1))) = 0 then
      true
    else
      false)
  else
    false)
def mf_fits_L19 (m_at : Nat → Int32) (k_1 : Nat) (s_2 : Bool) : Bool := zf (mf_fits_B19 m_at k_1) s_2 10
def mf_fits_B4 (m_at : Nat → Int32) (nr : Nat) (k_1 : Nat) (s_1 : Int32) : Int32 :=
  zlet (mf_fits_L19 m_at k_1 true) (fun s_2 =>
  (if s_2 = true then
    s_1 ||| ((1 : Int32) <<< ((nI k_1) &&& 31))
  else
    s_1 ||| 0))
def mf_fits_L4 (m_at : Nat → Int32) (nr : Nat) (s_1 : Int32) : Int32 := zf (mf_fits_B4 m_at nr) s_1 nr
def mf_fits (m_at : Nat → Int32) (nr : Nat) : Int32 × Int32 :=
  zlet (mf_fits_L4 m_at nr 0) (fun s_1 =>
  (s_1, 0))
theorem hd_X7_fits : yX7_fits.cls = RX7 ∧ yX7_fits.cls ≠ "java/lang/invoke/MethodHandle" ∧ yX7_fits.cls ≠ "java/lang/invoke/VarHandle" ∧ (parseMethodDescriptor yX7_fits.desc).map (fun d => d.parameters.length) = some 0 := by decide +kernel
set_option maxHeartbeats 4000000 in
set_option maxRecDepth 100000 in
theorem mt_mf_fits (l : Launch) (G : zG) (ad : Nat → Nat) (m_status : Int32) (m_top : Int64) (m_bottom : Int64) (m_taped : Int32) (m_size : Int32) (m_token : Int32) (m_from : Int32) (m_end : Int32) (m_value : Int32) (m_faultKind : Int32) (m_faultPlace : Int32) (m_faults : Int32) (m_seen : Int32) (m_depth : Int32) (m_counted : Int32) (m_lead : Int32) (m_round : Int32) (m_tried : Int32) (m_triedMany : Int32) (m_drawn : Int32) (m_ranSteps : Int32) (m_isTold : Bool) (m_marks : Int32) (m_at : Nat → Int32) (m_names : Nat → Int64) (m_sort : Nat → Int32) (m_trayMany : Nat → Int32) (m_trays : Nat → Int64) (m_tape : Nat → Int32) (m_text : Nat → Int32) (m_opened : Nat → Int32) (m_beside : Nat → Int32) (m_then : Nat → Int32) (m_ways : Nat → Int64) (m_further : Nat → Int64) (m_canBe : Nat → Int32) (m_loops : Nat → Int32) (m_ran : Nat → Int32) (m_told0 : Nat → Int32) (Wd : Nat) (R : Nat) (nr : Nat) (nc : Nat) (hG : mOK m_at Wd R nr nc) (sz : Nat) : Met l yX7_fits (ws_ yX7_fits cX7_fits 6 (some .int)) (zR 2 0 0) (zPm G sz [.ref (ad 0)] (mW G ad m_status m_top m_bottom m_taped m_size m_token m_from m_end m_value m_faultKind m_faultPlace m_faults m_seen m_depth m_counted m_lead m_round m_tried m_triedMany m_drawn m_ranSteps m_isTold m_marks m_at m_names m_sort m_trayMany m_trays m_tape m_text m_opened m_beside m_then m_ways m_further m_canBe m_loops m_ran m_told0)) (zQm G (True) (some (.int ((mf_fits m_at nr).1))) (mW G ad ((mf_fits m_at nr).2) m_top m_bottom m_taped m_size m_token m_from m_end m_value m_faultKind m_faultPlace m_faults m_seen m_depth m_counted m_lead m_round m_tried m_triedMany m_drawn m_ranSteps m_isTold m_marks m_at m_names m_sort m_trayMany m_trays m_tape m_text m_opened m_beside m_then m_ways m_further m_canBe m_loops m_ran m_told0) (va_A (mW G ad m_status m_top m_bottom m_taped m_size m_token m_from m_end m_value m_faultKind m_faultPlace m_faults m_seen m_depth m_counted m_lead m_round m_tried m_triedMany m_drawn m_ranSteps m_isTold m_marks m_at m_names m_sort m_trayMany m_trays m_tape m_text m_opened m_beside m_then m_ways m_further m_canBe m_loops m_ran m_told0) sz)) 0 0 (va_A (mW G ad m_status m_top m_bottom m_taped m_size m_token m_from m_end m_value m_faultKind m_faultPlace m_faults m_seen m_depth m_counted m_lead m_round m_tried m_triedMany m_drawn m_ranSteps m_isTold m_marks m_at m_names m_sort m_trayMany m_trays m_tape m_text m_opened m_beside m_then m_ways m_further m_canBe m_loops m_ran m_told0) sz) := by
  refine zr_entM (by decide) (Nat.le_of_ble_eq_true rfl) ?_
  intro p e s m below meth c ⟨hx, hb, hr, hml, hown, hts, hlocks, hnm⟩ ls hl hP hK A hE hA hD hS
  have hown : s.vm.findClass RX7 = some m.cls := hown
  have hl : lv_has ls 6 [(0, .ref (ad 0))] := hl
  obtain ⟨H, hH⟩ : ∃ H, H = s.heap := ⟨_, rfl⟩
  obtain ⟨locs, hlo⟩ : ∃ L : List Loc, L = [] := ⟨_, rfl⟩
  rw [← hH] at hP
  have hS : va_S A s.heap H locs := by rw [hH, hlo]; exact va_S.rf
  have hgo : W p l e (zR 2 0 0) s m ([.ref (ad 0)] : List Value).toArray below meth c H locs 0 0 (MQ below (zQm G (True) (some (.int ((mf_fits m_at nr).1))) (mW G ad ((mf_fits m_at nr).2) m_top m_bottom m_taped m_size m_token m_from m_end m_value m_faultKind m_faultPlace m_faults m_seen m_depth m_counted m_lead m_round m_tried m_triedMany m_drawn m_ranSteps m_isTold m_marks m_at m_names m_sort m_trayMany m_trays m_tape m_text m_opened m_beside m_then m_ways m_further m_canBe m_loops m_ran m_told0) A) ([.ref (ad 0)] : List Value).toArray s 0 0 A) (F0 m 0 ls []) := ?_
  · rw [hH, hlo] at hgo; exact hgo
  clear hH hlo
  have hWR := mOK_WR hG
  have hW0 := mOK_W0 hG
  have hW5 := mOK_W5 hG
  have hR0 := mOK_R0 hG
  have hR6 := mOK_R6 hG
  have hn4 := mOK_n4 hG
  have hc6 := mOK_c6 hG
  refine lv_iconst (v := 0) hx hb dX7_fits_0 (by decide) ?_
  refine lv_istore_n (lv' := [(1, .int 0), (0, .ref (ad 0))]) hx hb dX7_fits_1 rfl hl (by decide) rfl (fun ls hl => ?_)
  refine lv_iconst (v := 0) hx hb dX7_fits_2 (by decide) ?_
  refine lv_istore_n (lv' := [(2, .int 0), (1, .int 0), (0, .ref (ad 0))]) hx hb dX7_fits_3 rfl hl (by decide) rfl (fun ls hl => ?_)
  have hlp_1 : ∀ (n k_1 : Nat) (s_1 : Int32), k_1 ≤ nr → nr < k_1 + n → zf (mf_fits_B4 m_at nr) 0 k_1 = s_1 → ∀ (H : Heap) (locs : List Loc), va_P G.1 zcl (mW G ad m_status m_top m_bottom m_taped m_size m_token m_from m_end m_value m_faultKind m_faultPlace m_faults m_seen m_depth m_counted m_lead m_round m_tried m_triedMany m_drawn m_ranSteps m_isTold m_marks m_at m_names m_sort m_trayMany m_trays m_tape m_text m_opened m_beside m_then m_ways m_further m_canBe m_loops m_ran m_told0) H → va_D A (mW G ad m_status m_top m_bottom m_taped m_size m_token m_from m_end m_value m_faultKind m_faultPlace m_faults m_seen m_depth m_counted m_lead m_round m_tried m_triedMany m_drawn m_ranSteps m_isTold m_marks m_at m_names m_sort m_trayMany m_trays m_tape m_text m_opened m_beside m_then m_ways m_further m_canBe m_loops m_ran m_told0) → va_S A s.heap H locs → ∀ ls : Array Slot, lv_has ls 6 [(2, .int (nI k_1)), (1, .int s_1), (0, .ref (ad 0))] → W p l e (zR 2 0 0) s m ([.ref (ad 0)] : List Value).toArray below meth c H locs 0 0 (MQ below (zQm G (True) (some (.int ((mf_fits m_at nr).1))) (mW G ad ((mf_fits m_at nr).2) m_top m_bottom m_taped m_size m_token m_from m_end m_value m_faultKind m_faultPlace m_faults m_seen m_depth m_counted m_lead m_round m_tried m_triedMany m_drawn m_ranSteps m_isTold m_marks m_at m_names m_sort m_trayMany m_trays m_tape m_text m_opened m_beside m_then m_ways m_further m_canBe m_loops m_ran m_told0) A) ([.ref (ad 0)] : List Value).toArray s 0 0 A) (F0 m 4 ls []) := by
    intro n
    induction n with
    | zero => intro k_1 s_1 h1 h2; exact absurd h2 (by omega)
    | succ n ih_1 =>
      intro k_1 s_1 hk_1 hn_1 hst_1 H locs hP hD hS ls hl
      refine lv_iload_n hx hb dX7_fits_4 rfl (lv_at hl 0 rfl) ?_
      refine lv_aload_n hx hb dX7_fits_5 rfl (lv_at hl 2 rfl) ?_
      refine va_get (D := G.1) (ci := 7) (v := .ref (ad 1)) (C := RX7) (T := TX7) (N := 39) hx hb hts in_X7 hown hK.1 hP 0 rfl rfl 0 (Nat.le_of_ble_eq_true rfl) (hts _ q1467) (fun _ h => h) rfl dX7_fits_6 ?_
      refine lv_iconst (v := 5) hx hb dX7_fits_9 (by decide) ?_
      refine zr_iald 5 (v := nI nr) hx hb hK hP 1 rfl rfl (Nat.le_of_ble_eq_true rfl) rfl (by decide) (mOK_nr hG) dX7_fits_10 ?_
      refine zr_ge k_1 nr (by omega) (by omega) (tgt := 107) hx hb dX7_fits_11 (by decide) (fun c_1 => ?_) (fun c_1 => ?_)
      · have ek_1 : k_1 = nr := Nat.le_antisymm hk_1 c_1
        have hs_1 : mf_fits_L4 m_at nr 0 = s_1 := by rw [ek_1] at hst_1; exact hst_1
        have hl := lv_sub hl (l' := _) [1, 2] rfl
        refine lv_aload_n hx hb dX7_fits_107 rfl (lv_at hl 1 rfl) ?_
        refine lv_iload_n hx hb dX7_fits_108 rfl (lv_at hl 0 rfl) ?_
        refine zr_muV (F := ()) (ff := fun _ => True) (rr := fun _ => some (.int s_1)) (w1 := fun _ => (mW G ad 0 m_top m_bottom m_taped m_size m_token m_from m_end m_value m_faultKind m_faultPlace m_faults m_seen m_depth m_counted m_lead m_round m_tried m_triedMany m_drawn m_ranSteps m_isTold m_marks m_at m_names m_sort m_trayMany m_trays m_tape m_text m_opened m_beside m_then m_ways m_further m_canBe m_loops m_ran m_told0)) ⟨hx, hb, hml, hown, hts⟩ (mt_mf_gives l G ad m_status m_top m_bottom m_taped m_size m_token m_from m_end m_value m_faultKind m_faultPlace m_faults m_seen m_depth m_counted m_lead m_round m_tried m_triedMany m_drawn m_ranSteps m_isTold m_marks m_at m_names m_sort m_trayMany m_trays m_tape m_text m_opened m_beside m_then m_ways m_further m_canBe m_loops m_ran m_told0 s_1 H.size) (cwV 1 hts (lw_V q1751 q1753 qs85 q144 q1754) rfl rfl rfl hd_X7_gives ⟨(Nat.le_of_ble_eq_true rfl), (Nat.le_of_ble_eq_true rfl)⟩) hP hD hS hA hK hE 0 7 rfl rfl rfl hl.1 rfl (Nat.le_of_ble_eq_true rfl) dX7_fits_109 ⟨Nat.le_refl _, Nat.le_refl _⟩ (fun _ _ _ H locs hP hD hS _ => ?_)
        refine W.eq (g2 := F0 m 112 ls [.int s_1]) rfl ?_
        have e_ : mf_fits m_at nr = (s_1, 0) := by rw [mf_fits, zlet_eq hs_1]
        exact zr_mi hx hb hr hlocks hP hD hS dX7_fits_112 (by rw [e_])  (by rw [e_]) trivial
      · have hlt_1 : k_1 < nr := Nat.lt_of_not_le c_1
        refine lv_iconst (v := 1) hx hb dX7_fits_14 (by decide) ?_
        refine lv_istore_n (lv' := [(3, .int 1), (2, .int (nI k_1)), (1, .int s_1), (0, .ref (ad 0))]) hx hb dX7_fits_15 rfl hl (by decide) rfl (fun ls hl => ?_)
        refine lv_iconst (v := 0) hx hb dX7_fits_16 (by decide) ?_
        refine lv_istore (lv' := [(4, .int 0), (3, .int 1), (2, .int (nI k_1)), (1, .int s_1), (0, .ref (ad 0))]) hx hb dX7_fits_17 hl (by decide) rfl (fun ls hl => ?_)
        have hlp_2 : ∀ (n k_2 : Nat) (s_2 : Bool), k_2 ≤ 10 → 10 < k_2 + n → zf (mf_fits_B19 m_at k_1) true k_2 = s_2 → ∀ (H : Heap) (locs : List Loc), va_P G.1 zcl (mW G ad m_status m_top m_bottom m_taped m_size m_token m_from m_end m_value m_faultKind m_faultPlace m_faults m_seen m_depth m_counted m_lead m_round m_tried m_triedMany m_drawn m_ranSteps m_isTold m_marks m_at m_names m_sort m_trayMany m_trays m_tape m_text m_opened m_beside m_then m_ways m_further m_canBe m_loops m_ran m_told0) H → va_D A (mW G ad m_status m_top m_bottom m_taped m_size m_token m_from m_end m_value m_faultKind m_faultPlace m_faults m_seen m_depth m_counted m_lead m_round m_tried m_triedMany m_drawn m_ranSteps m_isTold m_marks m_at m_names m_sort m_trayMany m_trays m_tape m_text m_opened m_beside m_then m_ways m_further m_canBe m_loops m_ran m_told0) → va_S A s.heap H locs → ∀ ls : Array Slot, lv_has ls 6 [(4, .int (nI k_2)), (3, .int (zb s_2)), (2, .int (nI k_1)), (1, .int s_1), (0, .ref (ad 0))] → W p l e (zR 2 0 0) s m ([.ref (ad 0)] : List Value).toArray below meth c H locs 0 0 (MQ below (zQm G (True) (some (.int ((mf_fits m_at nr).1))) (mW G ad ((mf_fits m_at nr).2) m_top m_bottom m_taped m_size m_token m_from m_end m_value m_faultKind m_faultPlace m_faults m_seen m_depth m_counted m_lead m_round m_tried m_triedMany m_drawn m_ranSteps m_isTold m_marks m_at m_names m_sort m_trayMany m_trays m_tape m_text m_opened m_beside m_then m_ways m_further m_canBe m_loops m_ran m_told0) A) ([.ref (ad 0)] : List Value).toArray s 0 0 A) (F0 m 19 ls []) := by
          intro n
          induction n with
          | zero => intro k_2 s_2 h1 h2; exact absurd h2 (by omega)
          | succ n ih_2 =>
            intro k_2 s_2 hk_2 hn_2 hst_2 H locs hP hD hS ls hl
            refine lv_iload hx hb dX7_fits_19 (lv_at hl 0 rfl) ?_
            refine lv_bipush (v := 10) hx hb dX7_fits_21 (by decide) ?_
            refine zr_ge k_2 10 (by omega) (by decide) (tgt := 87) hx hb dX7_fits_23 (by decide) (fun c_2 => ?_) (fun c_2 => ?_)
            · have ek_2 : k_2 = 10 := Nat.le_antisymm hk_2 c_2
              have hs_2 : mf_fits_L19 m_at k_1 true = s_2 := by rw [ek_2] at hst_2; exact hst_2
              have hl := lv_sub hl (l' := _) [1, 2, 3, 4] rfl
              refine lv_iload_n hx hb dX7_fits_87 rfl (lv_at hl 2 rfl) ?_
              refine lv_iload_n hx hb dX7_fits_88 rfl (lv_at hl 0 rfl) ?_
              refine zr_eqB s_2 (tgt := 98) hx hb dX7_fits_89 (by decide) (fun c_5 => ?_) (fun c_5 => ?_)
              · refine lv_iconst (v := 0) hx hb dX7_fits_98 (by decide) ?_
                refine lv_ior hx hb dX7_fits_99 ?_
                refine lv_istore_n (lv' := [(1, .int (s_1 ||| 0)), (3, .int (zb s_2)), (2, .int (nI k_1)), (0, .ref (ad 0))]) hx hb dX7_fits_100 rfl hl (by decide) rfl (fun ls hl => ?_)
                refine lv_iinc (v := nI (k_1 + 1)) (lv' := [(2, .int (nI (k_1 + 1))), (1, .int (s_1 ||| 0)), (3, .int (zb s_2)), (0, .ref (ad 0))]) hx hb dX7_fits_101 hl (k := 2) rfl (nI_add k_1 1) (by decide) rfl (fun ls hl => ?_)
                refine lv_goto (tgt := 4) hx hb dX7_fits_104 (by decide) ?_
                exact ih_1 (k_1 + 1) (s_1 ||| 0) hlt_1 (by omega) (zf_s hst_1 (by rw [mf_fits_B4, zlet_eq hs_2, if_neg c_5])) H locs hP hD hS ls (lv_sub hl [0, 1, 3] rfl)
              · refine lv_iconst (v := 1) hx hb dX7_fits_92 (by decide) ?_
                refine lv_iload_n hx hb dX7_fits_93 rfl (lv_at hl 1 rfl) ?_
                refine lv_ishl hx hb dX7_fits_94 ?_
                refine lv_goto (tgt := 99) hx hb dX7_fits_95 (by decide) ?_
                refine lv_ior hx hb dX7_fits_99 ?_
                refine lv_istore_n (lv' := [(1, .int (s_1 ||| ((1 : Int32) <<< ((nI k_1) &&& 31)))), (3, .int (zb s_2)), (2, .int (nI k_1)), (0, .ref (ad 0))]) hx hb dX7_fits_100 rfl hl (by decide) rfl (fun ls hl => ?_)
                refine lv_iinc (v := nI (k_1 + 1)) (lv' := [(2, .int (nI (k_1 + 1))), (1, .int (s_1 ||| ((1 : Int32) <<< ((nI k_1) &&& 31)))), (3, .int (zb s_2)), (0, .ref (ad 0))]) hx hb dX7_fits_101 hl (k := 2) rfl (nI_add k_1 1) (by decide) rfl (fun ls hl => ?_)
                refine lv_goto (tgt := 4) hx hb dX7_fits_104 (by decide) ?_
                exact ih_1 (k_1 + 1) (s_1 ||| ((1 : Int32) <<< ((nI k_1) &&& 31))) hlt_1 (by omega) (zf_s hst_1 (by rw [mf_fits_B4, zlet_eq hs_2, if_pos c_5])) H locs hP hD hS ls (lv_sub hl [0, 1, 3] rfl)
            · have hlt_2 : k_2 < 10 := Nat.lt_of_not_le c_2
              refine lv_aload_n hx hb dX7_fits_26 rfl (lv_at hl 4 rfl) ?_
              refine va_get (D := G.1) (ci := 7) (v := .ref (ad 1)) (C := RX7) (T := TX7) (N := 39) hx hb hts in_X7 hown hK.1 hP 0 rfl rfl 0 (Nat.le_of_ble_eq_true rfl) (hts _ q1467) (fun _ h => h) rfl dX7_fits_27 ?_
              refine lv_bipush (v := 12) hx hb dX7_fits_30 (by decide) ?_
              refine lv_iconst (v := 2) hx hb dX7_fits_32 (by decide) ?_
              refine lv_iload_n hx hb dX7_fits_33 rfl (lv_at hl 2 rfl) ?_
              refine zr_imulN 2 k_1 hx hb dX7_fits_34 ?_
              refine zr_iaddN 12 (2 * k_1) hx hb dX7_fits_35 ?_
              refine lv_iload hx hb dX7_fits_36 (lv_at hl 0 rfl) ?_
              refine lv_iconst (v := 5) hx hb dX7_fits_38 (by decide) ?_
              refine zr_idivN k_2 5 (by omega) (by omega) (by omega) hx hb dX7_fits_39 ?_
              refine zr_iaddN (12 + (2 * k_1)) (k_2 / 5) hx hb dX7_fits_40 ?_
              refine zr_val (v' := .int (nI (12 + (2 * k_1) + (k_2 / 5)))) (by rfl) ?_
              refine zr_iald (12 + (2 * k_1) + (k_2 / 5)) (v := m_at (12 + (2 * k_1) + (k_2 / 5))) hx hb hK hP 1 rfl rfl (Nat.le_of_ble_eq_true rfl) rfl (by omega) rfl dX7_fits_41 ?_
              refine lv_iload hx hb dX7_fits_42 (lv_at hl 0 rfl) ?_
              refine lv_iconst (v := 5) hx hb dX7_fits_44 (by decide) ?_
              refine zr_iremN k_2 5 (by omega) (by omega) (by omega) hx hb dX7_fits_45 ?_
              refine lv_ishr hx hb dX7_fits_46 ?_
              refine lv_iconst (v := 1) hx hb dX7_fits_47 (by decide) ?_
              refine lv_iand hx hb dX7_fits_48 ?_
              refine lv_istore (lv' := [(5, .int (((m_at (12 + (2 * k_1) + (k_2 / 5))) >>> ((nI (k_2 % 5)) &&& 31)) &&& 1)), (4, .int (nI k_2)), (3, .int (zb s_2)), (2, .int (nI k_1)), (1, .int s_1), (0, .ref (ad 0))]) hx hb dX7_fits_49 hl (by decide) rfl (fun ls hl => ?_)
              refine lv_iload_n hx hb dX7_fits_51 rfl (lv_at hl 2 rfl) ?_
              refine zr_eqB s_2 (tgt := 79) hx hb dX7_fits_52 (by decide) (fun c_3 => ?_) (fun c_3 => ?_)
              · refine lv_iconst (v := 0) hx hb dX7_fits_79 (by decide) ?_
                refine lv_istore_n (lv' := [(3, .int 0), (5, .int (((m_at (12 + (2 * k_1) + (k_2 / 5))) >>> ((nI (k_2 % 5)) &&& 31)) &&& 1)), (4, .int (nI k_2)), (2, .int (nI k_1)), (1, .int s_1), (0, .ref (ad 0))]) hx hb dX7_fits_80 rfl hl (by decide) rfl (fun ls hl => ?_)
                refine lv_iinc (v := nI (k_2 + 1)) (lv' := [(4, .int (nI (k_2 + 1))), (3, .int 0), (5, .int (((m_at (12 + (2 * k_1) + (k_2 / 5))) >>> ((nI (k_2 % 5)) &&& 31)) &&& 1)), (2, .int (nI k_1)), (1, .int s_1), (0, .ref (ad 0))]) hx hb dX7_fits_81 hl (k := 2) rfl (nI_add k_2 1) (by decide) rfl (fun ls hl => ?_)
                refine lv_goto (tgt := 19) hx hb dX7_fits_84 (by decide) ?_
                exact ih_2 (k_2 + 1) false hlt_2 (by omega) (zf_s hst_2 (by rw [mf_fits_B19, if_neg c_3])) H locs hP hD hS ls (lv_sub hl [0, 1, 3, 4, 5] rfl)
              · refine lv_aload_n hx hb dX7_fits_55 rfl (lv_at hl 5 rfl) ?_
                refine va_get (D := G.1) (ci := 7) (v := .ref (ad 1)) (C := RX7) (T := TX7) (N := 39) hx hb hts in_X7 hown hK.1 hP 0 rfl rfl 0 (Nat.le_of_ble_eq_true rfl) (hts _ q1467) (fun _ h => h) rfl dX7_fits_56 ?_
                refine lv_bipush (v := 32) hx hb dX7_fits_59 (by decide) ?_
                refine lv_iload hx hb dX7_fits_61 (lv_at hl 1 rfl) ?_
                refine zr_iaddN 32 k_2 hx hb dX7_fits_63 ?_
                refine zr_iald (32 + k_2) (v := m_at (32 + k_2)) hx hb hK hP 1 rfl rfl (Nat.le_of_ble_eq_true rfl) rfl (by omega) rfl dX7_fits_64 ?_
                refine lv_iconst (v := 1) hx hb dX7_fits_65 (by decide) ?_
                refine lv_iload hx hb dX7_fits_66 (lv_at hl 0 rfl) ?_
                refine lv_ishl hx hb dX7_fits_68 ?_
                refine lv_iconst (v := (-1)) hx hb dX7_fits_69 (by decide) ?_
                refine lv_ixor hx hb dX7_fits_70 ?_
                refine lv_iand hx hb dX7_fits_71 ?_
                refine lv_if_ne (tgt := 79) hx hb dX7_fits_72 (by decide) (fun c_4 => ?_) (fun c_4 => ?_)
                · refine lv_iconst (v := 0) hx hb dX7_fits_79 (by decide) ?_
                  refine lv_istore_n (lv' := [(3, .int 0), (5, .int (((m_at (12 + (2 * k_1) + (k_2 / 5))) >>> ((nI (k_2 % 5)) &&& 31)) &&& 1)), (4, .int (nI k_2)), (2, .int (nI k_1)), (1, .int s_1), (0, .ref (ad 0))]) hx hb dX7_fits_80 rfl hl (by decide) rfl (fun ls hl => ?_)
                  refine lv_iinc (v := nI (k_2 + 1)) (lv' := [(4, .int (nI (k_2 + 1))), (3, .int 0), (5, .int (((m_at (12 + (2 * k_1) + (k_2 / 5))) >>> ((nI (k_2 % 5)) &&& 31)) &&& 1)), (2, .int (nI k_1)), (1, .int s_1), (0, .ref (ad 0))]) hx hb dX7_fits_81 hl (k := 2) rfl (nI_add k_2 1) (by decide) rfl (fun ls hl => ?_)
                  refine lv_goto (tgt := 19) hx hb dX7_fits_84 (by decide) ?_
                  exact ih_2 (k_2 + 1) false hlt_2 (by omega) (zf_s hst_2 (by rw [mf_fits_B19, if_pos c_3, if_neg c_4])) H locs hP hD hS ls (lv_sub hl [0, 1, 3, 4, 5] rfl)
                · refine lv_iconst (v := 1) hx hb dX7_fits_75 (by decide) ?_
                  refine lv_goto (tgt := 80) hx hb dX7_fits_76 (by decide) ?_
                  refine lv_istore_n (lv' := [(3, .int 1), (5, .int (((m_at (12 + (2 * k_1) + (k_2 / 5))) >>> ((nI (k_2 % 5)) &&& 31)) &&& 1)), (4, .int (nI k_2)), (2, .int (nI k_1)), (1, .int s_1), (0, .ref (ad 0))]) hx hb dX7_fits_80 rfl hl (by decide) rfl (fun ls hl => ?_)
                  refine lv_iinc (v := nI (k_2 + 1)) (lv' := [(4, .int (nI (k_2 + 1))), (3, .int 1), (5, .int (((m_at (12 + (2 * k_1) + (k_2 / 5))) >>> ((nI (k_2 % 5)) &&& 31)) &&& 1)), (2, .int (nI k_1)), (1, .int s_1), (0, .ref (ad 0))]) hx hb dX7_fits_81 hl (k := 2) rfl (nI_add k_2 1) (by decide) rfl (fun ls hl => ?_)
                  refine lv_goto (tgt := 19) hx hb dX7_fits_84 (by decide) ?_
                  exact ih_2 (k_2 + 1) true hlt_2 (by omega) (zf_s hst_2 (by rw [mf_fits_B19, if_pos c_3, if_pos c_4])) H locs hP hD hS ls (lv_sub hl [0, 1, 3, 4, 5] rfl)
        exact hlp_2 (10 + 1) 0 true (Nat.zero_le _) (by omega) rfl H locs hP hD hS ls (lv_sub hl [0, 1, 2, 3, 4] rfl)
  exact hlp_1 (nr + 1) 0 0 (Nat.zero_le _) (by omega) rfl H locs hP hD hS ls (lv_sub hl [0, 1, 2] rfl)
def mf_forget_B4  (k_1 : Nat) (s_1 : Int32 × (Nat → Int32)) : Int32 × (Nat → Int32) :=
  (if (s_1.2 (32 + k_1)) = 0 then
    (s_1.1 + 0, upd s_1.2 (32 + k_1) 0)
  else
    (s_1.1 + 1, upd s_1.2 (32 + k_1) 0))
def mf_forget_L4  (s_1 : Int32 × (Nat → Int32)) : Int32 × (Nat → Int32) := zf (mf_forget_B4 ) s_1 10
def mf_forget (m_at : Nat → Int32) : Int32 × Int32 × (Nat → Int32) :=
  zlet (mf_forget_L4  (0, m_at)) (fun s_1 =>
  (s_1.1, 0, s_1.2))
theorem hd_X7_forget : yX7_forget.cls = RX7 ∧ yX7_forget.cls ≠ "java/lang/invoke/MethodHandle" ∧ yX7_forget.cls ≠ "java/lang/invoke/VarHandle" ∧ (parseMethodDescriptor yX7_forget.desc).map (fun d => d.parameters.length) = some 0 := by decide +kernel
set_option maxHeartbeats 4000000 in
set_option maxRecDepth 100000 in
theorem mt_mf_forget (l : Launch) (G : zG) (ad : Nat → Nat) (m_status : Int32) (m_top : Int64) (m_bottom : Int64) (m_taped : Int32) (m_size : Int32) (m_token : Int32) (m_from : Int32) (m_end : Int32) (m_value : Int32) (m_faultKind : Int32) (m_faultPlace : Int32) (m_faults : Int32) (m_seen : Int32) (m_depth : Int32) (m_counted : Int32) (m_lead : Int32) (m_round : Int32) (m_tried : Int32) (m_triedMany : Int32) (m_drawn : Int32) (m_ranSteps : Int32) (m_isTold : Bool) (m_marks : Int32) (m_at : Nat → Int32) (m_names : Nat → Int64) (m_sort : Nat → Int32) (m_trayMany : Nat → Int32) (m_trays : Nat → Int64) (m_tape : Nat → Int32) (m_text : Nat → Int32) (m_opened : Nat → Int32) (m_beside : Nat → Int32) (m_then : Nat → Int32) (m_ways : Nat → Int64) (m_further : Nat → Int64) (m_canBe : Nat → Int32) (m_loops : Nat → Int32) (m_ran : Nat → Int32) (m_told0 : Nat → Int32) (Wd : Nat) (R : Nat) (nr : Nat) (nc : Nat) (hG : mOK m_at Wd R nr nc) (sz : Nat) : Met l yX7_forget (ws_ yX7_forget cX7_forget 3 (some .int)) (zR 2 0 0) (zPm G sz [.ref (ad 0)] (mW G ad m_status m_top m_bottom m_taped m_size m_token m_from m_end m_value m_faultKind m_faultPlace m_faults m_seen m_depth m_counted m_lead m_round m_tried m_triedMany m_drawn m_ranSteps m_isTold m_marks m_at m_names m_sort m_trayMany m_trays m_tape m_text m_opened m_beside m_then m_ways m_further m_canBe m_loops m_ran m_told0)) (zQm G (mOK ((mf_forget m_at).2.2) Wd R nr nc) (some (.int ((mf_forget m_at).1))) (mW G ad ((mf_forget m_at).2.1) m_top m_bottom m_taped m_size m_token m_from m_end m_value m_faultKind m_faultPlace m_faults m_seen m_depth m_counted m_lead m_round m_tried m_triedMany m_drawn m_ranSteps m_isTold m_marks ((mf_forget m_at).2.2) m_names m_sort m_trayMany m_trays m_tape m_text m_opened m_beside m_then m_ways m_further m_canBe m_loops m_ran m_told0) (va_A (mW G ad m_status m_top m_bottom m_taped m_size m_token m_from m_end m_value m_faultKind m_faultPlace m_faults m_seen m_depth m_counted m_lead m_round m_tried m_triedMany m_drawn m_ranSteps m_isTold m_marks m_at m_names m_sort m_trayMany m_trays m_tape m_text m_opened m_beside m_then m_ways m_further m_canBe m_loops m_ran m_told0) sz)) 0 0 (va_A (mW G ad m_status m_top m_bottom m_taped m_size m_token m_from m_end m_value m_faultKind m_faultPlace m_faults m_seen m_depth m_counted m_lead m_round m_tried m_triedMany m_drawn m_ranSteps m_isTold m_marks m_at m_names m_sort m_trayMany m_trays m_tape m_text m_opened m_beside m_then m_ways m_further m_canBe m_loops m_ran m_told0) sz) := by
  refine zr_entM (by decide) (Nat.le_of_ble_eq_true rfl) ?_
  intro p e s m below meth c ⟨hx, hb, hr, hml, hown, hts, hlocks, hnm⟩ ls hl hP hK A hE hA hD hS
  have hown : s.vm.findClass RX7 = some m.cls := hown
  have hl : lv_has ls 3 [(0, .ref (ad 0))] := hl
  obtain ⟨H, hH⟩ : ∃ H, H = s.heap := ⟨_, rfl⟩
  obtain ⟨locs, hlo⟩ : ∃ L : List Loc, L = [] := ⟨_, rfl⟩
  rw [← hH] at hP
  have hS : va_S A s.heap H locs := by rw [hH, hlo]; exact va_S.rf
  have hgo : W p l e (zR 2 0 0) s m ([.ref (ad 0)] : List Value).toArray below meth c H locs 0 0 (MQ below (zQm G (mOK ((mf_forget m_at).2.2) Wd R nr nc) (some (.int ((mf_forget m_at).1))) (mW G ad ((mf_forget m_at).2.1) m_top m_bottom m_taped m_size m_token m_from m_end m_value m_faultKind m_faultPlace m_faults m_seen m_depth m_counted m_lead m_round m_tried m_triedMany m_drawn m_ranSteps m_isTold m_marks ((mf_forget m_at).2.2) m_names m_sort m_trayMany m_trays m_tape m_text m_opened m_beside m_then m_ways m_further m_canBe m_loops m_ran m_told0) A) ([.ref (ad 0)] : List Value).toArray s 0 0 A) (F0 m 0 ls []) := ?_
  · rw [hH, hlo] at hgo; exact hgo
  clear hH hlo
  have hWR := mOK_WR hG
  have hW0 := mOK_W0 hG
  have hW5 := mOK_W5 hG
  have hR0 := mOK_R0 hG
  have hR6 := mOK_R6 hG
  have hn4 := mOK_n4 hG
  have hc6 := mOK_c6 hG
  refine lv_iconst (v := 0) hx hb dX7_forget_0 (by decide) ?_
  refine lv_istore_n (lv' := [(1, .int 0), (0, .ref (ad 0))]) hx hb dX7_forget_1 rfl hl (by decide) rfl (fun ls hl => ?_)
  refine lv_iconst (v := 0) hx hb dX7_forget_2 (by decide) ?_
  refine lv_istore_n (lv' := [(2, .int 0), (1, .int 0), (0, .ref (ad 0))]) hx hb dX7_forget_3 rfl hl (by decide) rfl (fun ls hl => ?_)
  have hlp_1 : ∀ (n k_1 : Nat) (s_1 : Int32 × (Nat → Int32)), k_1 ≤ 10 → 10 < k_1 + n → zf (mf_forget_B4 ) (0, m_at) k_1 = s_1 → mOK s_1.2 Wd R nr nc → ∀ (H : Heap) (locs : List Loc), va_P G.1 zcl (mW G ad m_status m_top m_bottom m_taped m_size m_token m_from m_end m_value m_faultKind m_faultPlace m_faults m_seen m_depth m_counted m_lead m_round m_tried m_triedMany m_drawn m_ranSteps m_isTold m_marks s_1.2 m_names m_sort m_trayMany m_trays m_tape m_text m_opened m_beside m_then m_ways m_further m_canBe m_loops m_ran m_told0) H → va_D A (mW G ad m_status m_top m_bottom m_taped m_size m_token m_from m_end m_value m_faultKind m_faultPlace m_faults m_seen m_depth m_counted m_lead m_round m_tried m_triedMany m_drawn m_ranSteps m_isTold m_marks s_1.2 m_names m_sort m_trayMany m_trays m_tape m_text m_opened m_beside m_then m_ways m_further m_canBe m_loops m_ran m_told0) → va_S A s.heap H locs → ∀ ls : Array Slot, lv_has ls 3 [(2, .int (nI k_1)), (1, .int s_1.1), (0, .ref (ad 0))] → W p l e (zR 2 0 0) s m ([.ref (ad 0)] : List Value).toArray below meth c H locs 0 0 (MQ below (zQm G (mOK ((mf_forget m_at).2.2) Wd R nr nc) (some (.int ((mf_forget m_at).1))) (mW G ad ((mf_forget m_at).2.1) m_top m_bottom m_taped m_size m_token m_from m_end m_value m_faultKind m_faultPlace m_faults m_seen m_depth m_counted m_lead m_round m_tried m_triedMany m_drawn m_ranSteps m_isTold m_marks ((mf_forget m_at).2.2) m_names m_sort m_trayMany m_trays m_tape m_text m_opened m_beside m_then m_ways m_further m_canBe m_loops m_ran m_told0) A) ([.ref (ad 0)] : List Value).toArray s 0 0 A) (F0 m 4 ls []) := by
    intro n
    induction n with
    | zero => intro k_1 s_1 h1 h2; exact absurd h2 (by omega)
    | succ n ih_1 =>
      intro k_1 s_1 hk_1 hn_1 hst_1 ok_1_m_at H locs hP hD hS ls hl
      refine lv_iload_n hx hb dX7_forget_4 rfl (lv_at hl 0 rfl) ?_
      refine lv_bipush (v := 10) hx hb dX7_forget_5 (by decide) ?_
      refine zr_ge k_1 10 (by omega) (by decide) (tgt := 46) hx hb dX7_forget_7 (by decide) (fun c_1 => ?_) (fun c_1 => ?_)
      · have ek_1 : k_1 = 10 := Nat.le_antisymm hk_1 c_1
        have hs_1 : mf_forget_L4  (0, m_at) = s_1 := by rw [ek_1] at hst_1; exact hst_1
        have hl := lv_sub hl (l' := _) [1, 2] rfl
        refine lv_aload_n hx hb dX7_forget_46 rfl (lv_at hl 1 rfl) ?_
        refine lv_iload_n hx hb dX7_forget_47 rfl (lv_at hl 0 rfl) ?_
        refine zr_muV (F := ()) (ff := fun _ => True) (rr := fun _ => some (.int s_1.1)) (w1 := fun _ => (mW G ad 0 m_top m_bottom m_taped m_size m_token m_from m_end m_value m_faultKind m_faultPlace m_faults m_seen m_depth m_counted m_lead m_round m_tried m_triedMany m_drawn m_ranSteps m_isTold m_marks s_1.2 m_names m_sort m_trayMany m_trays m_tape m_text m_opened m_beside m_then m_ways m_further m_canBe m_loops m_ran m_told0)) ⟨hx, hb, hml, hown, hts⟩ (mt_mf_gives l G ad m_status m_top m_bottom m_taped m_size m_token m_from m_end m_value m_faultKind m_faultPlace m_faults m_seen m_depth m_counted m_lead m_round m_tried m_triedMany m_drawn m_ranSteps m_isTold m_marks s_1.2 m_names m_sort m_trayMany m_trays m_tape m_text m_opened m_beside m_then m_ways m_further m_canBe m_loops m_ran m_told0 s_1.1 H.size) (cwV 1 hts (lw_V q1751 q1753 qs85 q144 q1754) rfl rfl rfl hd_X7_gives ⟨(Nat.le_of_ble_eq_true rfl), (Nat.le_of_ble_eq_true rfl)⟩) hP hD hS hA hK hE 0 7 rfl rfl rfl hl.1 rfl (Nat.le_of_ble_eq_true rfl) dX7_forget_48 ⟨Nat.le_refl _, Nat.le_refl _⟩ (fun _ _ _ H locs hP hD hS _ => ?_)
        refine W.eq (g2 := F0 m 51 ls [.int s_1.1]) rfl ?_
        have e_ : mf_forget m_at = (s_1.1, 0, s_1.2) := by rw [mf_forget, zlet_eq hs_1]
        exact zr_mi hx hb hr hlocks hP hD hS dX7_forget_51 (by rw [e_])  (by rw [e_]) (by rw [e_]; exact ok_1_m_at)
      · have hlt_1 : k_1 < 10 := Nat.lt_of_not_le c_1
        refine lv_iload_n hx hb dX7_forget_10 rfl (lv_at hl 1 rfl) ?_
        refine lv_aload_n hx hb dX7_forget_11 rfl (lv_at hl 2 rfl) ?_
        refine va_get (D := G.1) (ci := 7) (v := .ref (ad 1)) (C := RX7) (T := TX7) (N := 39) hx hb hts in_X7 hown hK.1 hP 0 rfl rfl 0 (Nat.le_of_ble_eq_true rfl) (hts _ q1467) (fun _ h => h) rfl dX7_forget_12 ?_
        refine lv_bipush (v := 32) hx hb dX7_forget_15 (by decide) ?_
        refine lv_iload_n hx hb dX7_forget_17 rfl (lv_at hl 0 rfl) ?_
        refine zr_iaddN 32 k_1 hx hb dX7_forget_18 ?_
        refine zr_iald (32 + k_1) (v := s_1.2 (32 + k_1)) hx hb hK hP 1 rfl rfl (Nat.le_of_ble_eq_true rfl) rfl (by omega) rfl dX7_forget_19 ?_
        refine lv_if_ne (tgt := 27) hx hb dX7_forget_20 (by decide) (fun c_2 => ?_) (fun c_2 => ?_)
        · refine lv_iconst (v := 1) hx hb dX7_forget_27 (by decide) ?_
          refine lv_iadd hx hb dX7_forget_28 ?_
          refine lv_istore_n (lv' := [(1, .int (s_1.1 + 1)), (2, .int (nI k_1)), (0, .ref (ad 0))]) hx hb dX7_forget_29 rfl hl (by decide) rfl (fun ls hl => ?_)
          refine lv_aload_n hx hb dX7_forget_30 rfl (lv_at hl 2 rfl) ?_
          refine va_get (D := G.1) (ci := 7) (v := .ref (ad 1)) (C := RX7) (T := TX7) (N := 39) hx hb hts in_X7 hown hK.1 hP 0 rfl rfl 0 (Nat.le_of_ble_eq_true rfl) (hts _ q1467) (fun _ h => h) rfl dX7_forget_31 ?_
          refine lv_bipush (v := 32) hx hb dX7_forget_34 (by decide) ?_
          refine lv_iload_n hx hb dX7_forget_36 rfl (lv_at hl 1 rfl) ?_
          refine zr_iaddN 32 k_1 hx hb dX7_forget_37 ?_
          refine lv_iconst (v := 0) hx hb dX7_forget_38 (by decide) ?_
          refine zr_iast (32 + k_1) (ws' := (mW G ad m_status m_top m_bottom m_taped m_size m_token m_from m_end m_value m_faultKind m_faultPlace m_faults m_seen m_depth m_counted m_lead m_round m_tried m_triedMany m_drawn m_ranSteps m_isTold m_marks (upd s_1.2 (32 + k_1) 0) m_names m_sort m_trayMany m_trays m_tape m_text m_opened m_beside m_then m_ways m_further m_canBe m_loops m_ran m_told0)) hx hb hK hP hD hS 1 rfl rfl (Nat.le_of_ble_eq_true rfl) rfl (by omega) rfl dX7_forget_39 (fun H locs hP hD hS => ?_)
          refine lv_iinc (v := nI (k_1 + 1)) (lv' := [(2, .int (nI (k_1 + 1))), (1, .int (s_1.1 + 1)), (0, .ref (ad 0))]) hx hb dX7_forget_40 hl (k := 1) rfl (nI_add k_1 1) (by decide) rfl (fun ls hl => ?_)
          refine lv_goto (tgt := 4) hx hb dX7_forget_43 (by decide) ?_
          exact ih_1 (k_1 + 1) (s_1.1 + 1, upd s_1.2 (32 + k_1) 0) hlt_1 (by omega) (zf_s hst_1 (by rw [mf_forget_B4, if_neg c_2])) (mOK_u ok_1_m_at (by omega)) H locs hP hD hS ls (lv_sub hl [0, 1, 2] rfl)
        · refine lv_iconst (v := 0) hx hb dX7_forget_23 (by decide) ?_
          refine lv_goto (tgt := 28) hx hb dX7_forget_24 (by decide) ?_
          refine lv_iadd hx hb dX7_forget_28 ?_
          refine lv_istore_n (lv' := [(1, .int (s_1.1 + 0)), (2, .int (nI k_1)), (0, .ref (ad 0))]) hx hb dX7_forget_29 rfl hl (by decide) rfl (fun ls hl => ?_)
          refine lv_aload_n hx hb dX7_forget_30 rfl (lv_at hl 2 rfl) ?_
          refine va_get (D := G.1) (ci := 7) (v := .ref (ad 1)) (C := RX7) (T := TX7) (N := 39) hx hb hts in_X7 hown hK.1 hP 0 rfl rfl 0 (Nat.le_of_ble_eq_true rfl) (hts _ q1467) (fun _ h => h) rfl dX7_forget_31 ?_
          refine lv_bipush (v := 32) hx hb dX7_forget_34 (by decide) ?_
          refine lv_iload_n hx hb dX7_forget_36 rfl (lv_at hl 1 rfl) ?_
          refine zr_iaddN 32 k_1 hx hb dX7_forget_37 ?_
          refine lv_iconst (v := 0) hx hb dX7_forget_38 (by decide) ?_
          refine zr_iast (32 + k_1) (ws' := (mW G ad m_status m_top m_bottom m_taped m_size m_token m_from m_end m_value m_faultKind m_faultPlace m_faults m_seen m_depth m_counted m_lead m_round m_tried m_triedMany m_drawn m_ranSteps m_isTold m_marks (upd s_1.2 (32 + k_1) 0) m_names m_sort m_trayMany m_trays m_tape m_text m_opened m_beside m_then m_ways m_further m_canBe m_loops m_ran m_told0)) hx hb hK hP hD hS 1 rfl rfl (Nat.le_of_ble_eq_true rfl) rfl (by omega) rfl dX7_forget_39 (fun H locs hP hD hS => ?_)
          refine lv_iinc (v := nI (k_1 + 1)) (lv' := [(2, .int (nI (k_1 + 1))), (1, .int (s_1.1 + 0)), (0, .ref (ad 0))]) hx hb dX7_forget_40 hl (k := 1) rfl (nI_add k_1 1) (by decide) rfl (fun ls hl => ?_)
          refine lv_goto (tgt := 4) hx hb dX7_forget_43 (by decide) ?_
          exact ih_1 (k_1 + 1) (s_1.1 + 0, upd s_1.2 (32 + k_1) 0) hlt_1 (by omega) (zf_s hst_1 (by rw [mf_forget_B4, if_pos c_2])) (mOK_u ok_1_m_at (by omega)) H locs hP hD hS ls (lv_sub hl [0, 1, 2] rfl)
  exact hlp_1 (10 + 1) 0 (0, m_at) (Nat.zero_le _) (by omega) rfl hG H locs hP hD hS ls (lv_sub hl [0, 1, 2] rfl)
def mf_shows_B8 (m_at : Nat → Int32) (Wd : Nat) (R : Nat) (t_1 : (Nat → Int32)) (k_2 : Nat) (s_2 : Int32) : Int32 :=
  (if (((mf_free m_at) >>> ((nI k_2) &&& 31)) &&& 1) = 0 then
    s_2
  else
    (if (m_at (32 + ((5 * ((((m_at 3) >>> ((nI k_2) &&& 31)) &&& 1).toNatClampNeg)) + (zpc ((t_1 k_2) &&& (m_at 3)))))) = 0 then
      s_2 ||| ((1 : Int32) <<< ((nI ((5 * ((((m_at 3) >>> ((nI k_2) &&& 31)) &&& 1).toNatClampNeg)) + (zpc ((t_1 k_2) &&& (m_at 3))))) &&& 31))
    else
      s_2 ||| 0))
def mf_shows_L8 (m_at : Nat → Int32) (Wd : Nat) (R : Nat) (t_1 : (Nat → Int32)) (s_2 : Int32) : Int32 := zf (mf_shows_B8 m_at Wd R t_1) s_2 (Wd * R)
def mf_shows (m_at : Nat → Int32) (m_beside : Nat → Int32) (Wd : Nat) (R : Nat) : Int32 × Int32 × (Nat → Int32) :=
  zlet (mf_laysNear m_at m_beside Wd R) (fun t_1 =>
  zlet (mf_shows_L8 m_at Wd R t_1 0) (fun s_2 =>
  (nI (zpc s_2), 0, t_1)))
theorem hd_X7_shows : yX7_shows.cls = RX7 ∧ yX7_shows.cls ≠ "java/lang/invoke/MethodHandle" ∧ yX7_shows.cls ≠ "java/lang/invoke/VarHandle" ∧ (parseMethodDescriptor yX7_shows.desc).map (fun d => d.parameters.length) = some 0 := by decide +kernel
set_option maxHeartbeats 4000000 in
set_option maxRecDepth 100000 in
theorem mt_mf_shows (l : Launch) (G : zG) (ad : Nat → Nat) (m_status : Int32) (m_top : Int64) (m_bottom : Int64) (m_taped : Int32) (m_size : Int32) (m_token : Int32) (m_from : Int32) (m_end : Int32) (m_value : Int32) (m_faultKind : Int32) (m_faultPlace : Int32) (m_faults : Int32) (m_seen : Int32) (m_depth : Int32) (m_counted : Int32) (m_lead : Int32) (m_round : Int32) (m_tried : Int32) (m_triedMany : Int32) (m_drawn : Int32) (m_ranSteps : Int32) (m_isTold : Bool) (m_marks : Int32) (m_at : Nat → Int32) (m_names : Nat → Int64) (m_sort : Nat → Int32) (m_trayMany : Nat → Int32) (m_trays : Nat → Int64) (m_tape : Nat → Int32) (m_text : Nat → Int32) (m_opened : Nat → Int32) (m_beside : Nat → Int32) (m_then : Nat → Int32) (m_ways : Nat → Int64) (m_further : Nat → Int64) (m_canBe : Nat → Int32) (m_loops : Nat → Int32) (m_ran : Nat → Int32) (m_told0 : Nat → Int32) (Wd : Nat) (R : Nat) (nr : Nat) (nc : Nat) (hG : mOK m_at Wd R nr nc) (sz : Nat) : Met l yX7_shows (ws_ yX7_shows cX7_shows 4 (some .int)) (zR 4 0 0) (zPm G sz [.ref (ad 0)] (mW G ad m_status m_top m_bottom m_taped m_size m_token m_from m_end m_value m_faultKind m_faultPlace m_faults m_seen m_depth m_counted m_lead m_round m_tried m_triedMany m_drawn m_ranSteps m_isTold m_marks m_at m_names m_sort m_trayMany m_trays m_tape m_text m_opened m_beside m_then m_ways m_further m_canBe m_loops m_ran m_told0)) (zQm G (True) (some (.int ((mf_shows m_at m_beside Wd R).1))) (mW G ad ((mf_shows m_at m_beside Wd R).2.1) m_top m_bottom m_taped m_size m_token m_from m_end m_value m_faultKind m_faultPlace m_faults m_seen m_depth m_counted m_lead m_round m_tried m_triedMany m_drawn m_ranSteps m_isTold m_marks m_at m_names m_sort m_trayMany m_trays m_tape m_text m_opened ((mf_shows m_at m_beside Wd R).2.2) m_then m_ways m_further m_canBe m_loops m_ran m_told0) (va_A (mW G ad m_status m_top m_bottom m_taped m_size m_token m_from m_end m_value m_faultKind m_faultPlace m_faults m_seen m_depth m_counted m_lead m_round m_tried m_triedMany m_drawn m_ranSteps m_isTold m_marks m_at m_names m_sort m_trayMany m_trays m_tape m_text m_opened m_beside m_then m_ways m_further m_canBe m_loops m_ran m_told0) sz)) 0 0 (va_A (mW G ad m_status m_top m_bottom m_taped m_size m_token m_from m_end m_value m_faultKind m_faultPlace m_faults m_seen m_depth m_counted m_lead m_round m_tried m_triedMany m_drawn m_ranSteps m_isTold m_marks m_at m_names m_sort m_trayMany m_trays m_tape m_text m_opened m_beside m_then m_ways m_further m_canBe m_loops m_ran m_told0) sz) := by
  refine zr_entM (by decide) (Nat.le_of_ble_eq_true rfl) ?_
  intro p e s m below meth c ⟨hx, hb, hr, hml, hown, hts, hlocks, hnm⟩ ls hl hP hK A hE hA hD hS
  have hown : s.vm.findClass RX7 = some m.cls := hown
  have hl : lv_has ls 4 [(0, .ref (ad 0))] := hl
  obtain ⟨H, hH⟩ : ∃ H, H = s.heap := ⟨_, rfl⟩
  obtain ⟨locs, hlo⟩ : ∃ L : List Loc, L = [] := ⟨_, rfl⟩
  rw [← hH] at hP
  have hS : va_S A s.heap H locs := by rw [hH, hlo]; exact va_S.rf
  have hgo : W p l e (zR 4 0 0) s m ([.ref (ad 0)] : List Value).toArray below meth c H locs 0 0 (MQ below (zQm G (True) (some (.int ((mf_shows m_at m_beside Wd R).1))) (mW G ad ((mf_shows m_at m_beside Wd R).2.1) m_top m_bottom m_taped m_size m_token m_from m_end m_value m_faultKind m_faultPlace m_faults m_seen m_depth m_counted m_lead m_round m_tried m_triedMany m_drawn m_ranSteps m_isTold m_marks m_at m_names m_sort m_trayMany m_trays m_tape m_text m_opened ((mf_shows m_at m_beside Wd R).2.2) m_then m_ways m_further m_canBe m_loops m_ran m_told0) A) ([.ref (ad 0)] : List Value).toArray s 0 0 A) (F0 m 0 ls []) := ?_
  · rw [hH, hlo] at hgo; exact hgo
  clear hH hlo
  have hWR := mOK_WR hG
  have hW0 := mOK_W0 hG
  have hW5 := mOK_W5 hG
  have hR0 := mOK_R0 hG
  have hR6 := mOK_R6 hG
  have hn4 := mOK_n4 hG
  have hc6 := mOK_c6 hG
  refine lv_aload_n hx hb dX7_shows_0 rfl (lv_at hl 0 rfl) ?_
  refine zr_muV (F := mf_laysNear m_at m_beside Wd R) (ff := fun t_1 => True) (rr := fun t_1 => none) (w1 := fun t_1 => (mW G ad m_status m_top m_bottom m_taped m_size m_token m_from m_end m_value m_faultKind m_faultPlace m_faults m_seen m_depth m_counted m_lead m_round m_tried m_triedMany m_drawn m_ranSteps m_isTold m_marks m_at m_names m_sort m_trayMany m_trays m_tape m_text m_opened t_1 m_then m_ways m_further m_canBe m_loops m_ran m_told0)) ⟨hx, hb, hml, hown, hts⟩ (mt_mf_laysNear l G ad m_status m_top m_bottom m_taped m_size m_token m_from m_end m_value m_faultKind m_faultPlace m_faults m_seen m_depth m_counted m_lead m_round m_tried m_triedMany m_drawn m_ranSteps m_isTold m_marks m_at m_names m_sort m_trayMany m_trays m_tape m_text m_opened m_beside m_then m_ways m_further m_canBe m_loops m_ran m_told0 Wd R nr nc hG H.size) (cwV 0 hts (lw_V q1889 q1891 qs105 q144 q1892) rfl rfl rfl hd_X7_laysNear ⟨(Nat.le_of_ble_eq_true rfl), (Nat.le_of_ble_eq_true rfl)⟩) hP hD hS hA hK hE 0 7 rfl rfl rfl hl.1 rfl (Nat.le_of_ble_eq_true rfl) dX7_shows_1 ⟨Nat.le_refl _, Nat.le_refl _⟩ (fun t_1 ht_1 hft_1 H locs hP hD hS _ => ?_)
  refine W.eq (g2 := F0 m 4 ls []) rfl ?_
  refine lv_iconst (v := 0) hx hb dX7_shows_4 (by decide) ?_
  refine lv_istore_n (lv' := [(1, .int 0), (0, .ref (ad 0))]) hx hb dX7_shows_5 rfl hl (by decide) rfl (fun ls hl => ?_)
  refine lv_iconst (v := 0) hx hb dX7_shows_6 (by decide) ?_
  refine lv_istore_n (lv' := [(2, .int 0), (1, .int 0), (0, .ref (ad 0))]) hx hb dX7_shows_7 rfl hl (by decide) rfl (fun ls hl => ?_)
  have hlp_2 : ∀ (n k_2 : Nat) (s_2 : Int32), k_2 ≤ Wd * R → Wd * R < k_2 + n → zf (mf_shows_B8 m_at Wd R t_1) 0 k_2 = s_2 → ∀ (H : Heap) (locs : List Loc), va_P G.1 zcl (mW G ad m_status m_top m_bottom m_taped m_size m_token m_from m_end m_value m_faultKind m_faultPlace m_faults m_seen m_depth m_counted m_lead m_round m_tried m_triedMany m_drawn m_ranSteps m_isTold m_marks m_at m_names m_sort m_trayMany m_trays m_tape m_text m_opened t_1 m_then m_ways m_further m_canBe m_loops m_ran m_told0) H → va_D A (mW G ad m_status m_top m_bottom m_taped m_size m_token m_from m_end m_value m_faultKind m_faultPlace m_faults m_seen m_depth m_counted m_lead m_round m_tried m_triedMany m_drawn m_ranSteps m_isTold m_marks m_at m_names m_sort m_trayMany m_trays m_tape m_text m_opened t_1 m_then m_ways m_further m_canBe m_loops m_ran m_told0) → va_S A s.heap H locs → ∀ ls : Array Slot, lv_has ls 4 [(2, .int (nI k_2)), (1, .int s_2), (0, .ref (ad 0))] → W p l e (zR 4 0 0) s m ([.ref (ad 0)] : List Value).toArray below meth c H locs 0 0 (MQ below (zQm G (True) (some (.int ((mf_shows m_at m_beside Wd R).1))) (mW G ad ((mf_shows m_at m_beside Wd R).2.1) m_top m_bottom m_taped m_size m_token m_from m_end m_value m_faultKind m_faultPlace m_faults m_seen m_depth m_counted m_lead m_round m_tried m_triedMany m_drawn m_ranSteps m_isTold m_marks m_at m_names m_sort m_trayMany m_trays m_tape m_text m_opened ((mf_shows m_at m_beside Wd R).2.2) m_then m_ways m_further m_canBe m_loops m_ran m_told0) A) ([.ref (ad 0)] : List Value).toArray s 0 0 A) (F0 m 8 ls []) := by
    intro n
    induction n with
    | zero => intro k_2 s_2 h1 h2; exact absurd h2 (by omega)
    | succ n ih_2 =>
      intro k_2 s_2 hk_2 hn_2 hst_2 H locs hP hD hS ls hl
      refine lv_iload_n hx hb dX7_shows_8 rfl (lv_at hl 0 rfl) ?_
      refine lv_aload_n hx hb dX7_shows_9 rfl (lv_at hl 2 rfl) ?_
      refine zr_obV ⟨hx, hb, hml, hown, hts⟩ (mt_mf_places l G ad m_status m_top m_bottom m_taped m_size m_token m_from m_end m_value m_faultKind m_faultPlace m_faults m_seen m_depth m_counted m_lead m_round m_tried m_triedMany m_drawn m_ranSteps m_isTold m_marks m_at m_names m_sort m_trayMany m_trays m_tape m_text m_opened t_1 m_then m_ways m_further m_canBe m_loops m_ran m_told0 Wd R nr nc hG) (cwV 0 hts (lw_V q1815 q1817 qs97 q144 q1818) rfl rfl rfl hd_X7_places ⟨(Nat.le_of_ble_eq_true rfl), (Nat.le_of_ble_eq_true rfl)⟩) hP hK (zE_o hE hS) 0 7 rfl rfl rfl hl.1 rfl (Nat.le_of_ble_eq_true rfl) dX7_shows_10 ⟨Nat.le_refl _, Nat.le_refl _⟩ ?_
      refine zr_ge k_2 (Wd * R) (by omega) (by omega) (tgt := 88) hx hb dX7_shows_13 (by decide) (fun c_2 => ?_) (fun c_2 => ?_)
      · have ek_2 : k_2 = Wd * R := Nat.le_antisymm hk_2 c_2
        have hs_2 : mf_shows_L8 m_at Wd R t_1 0 = s_2 := by rw [ek_2] at hst_2; exact hst_2
        have hl := lv_sub hl (l' := _) [1, 2] rfl
        refine lv_aload_n hx hb dX7_shows_88 rfl (lv_at hl 1 rfl) ?_
        refine lv_iload_n hx hb dX7_shows_89 rfl (lv_at hl 0 rfl) ?_
        refine zr_puS ⟨hx, hb, hml, hown, hts⟩ (mt_bitsN l s_2) (va_cwS 1 hts (lw_S q1744 q1745 q144 q1746) rfl rfl rfl hd_X7_bits.2 ⟨(Nat.le_of_ble_eq_true rfl), (Nat.le_of_ble_eq_true rfl)⟩) rfl hl.1 rfl (Nat.le_of_ble_eq_true rfl) dX7_shows_90 ⟨Nat.le_refl _, Nat.le_refl _⟩ ?_
        refine zr_muV (F := ()) (ff := fun _ => True) (rr := fun _ => some (.int (nI (zpc s_2)))) (w1 := fun _ => (mW G ad 0 m_top m_bottom m_taped m_size m_token m_from m_end m_value m_faultKind m_faultPlace m_faults m_seen m_depth m_counted m_lead m_round m_tried m_triedMany m_drawn m_ranSteps m_isTold m_marks m_at m_names m_sort m_trayMany m_trays m_tape m_text m_opened t_1 m_then m_ways m_further m_canBe m_loops m_ran m_told0)) ⟨hx, hb, hml, hown, hts⟩ (mt_mf_gives l G ad m_status m_top m_bottom m_taped m_size m_token m_from m_end m_value m_faultKind m_faultPlace m_faults m_seen m_depth m_counted m_lead m_round m_tried m_triedMany m_drawn m_ranSteps m_isTold m_marks m_at m_names m_sort m_trayMany m_trays m_tape m_text m_opened t_1 m_then m_ways m_further m_canBe m_loops m_ran m_told0 (nI (zpc s_2)) H.size) (cwV 1 hts (lw_V q1751 q1753 qs85 q144 q1754) rfl rfl rfl hd_X7_gives ⟨(Nat.le_of_ble_eq_true rfl), (Nat.le_of_ble_eq_true rfl)⟩) hP hD hS hA hK hE 0 7 rfl rfl rfl hl.1 rfl (Nat.le_of_ble_eq_true rfl) dX7_shows_93 ⟨Nat.le_refl _, Nat.le_refl _⟩ (fun _ _ _ H locs hP hD hS _ => ?_)
        refine W.eq (g2 := F0 m 96 ls [.int (nI (zpc s_2))]) rfl ?_
        have e_ : mf_shows m_at m_beside Wd R = (nI (zpc s_2), 0, t_1) := by rw [mf_shows, zlet_eq ht_1, zlet_eq hs_2]
        exact zr_mi hx hb hr hlocks hP hD hS dX7_shows_96 (by rw [e_])  (by rw [e_]) trivial
      · have hlt_2 : k_2 < Wd * R := Nat.lt_of_not_le c_2
        refine lv_aload_n hx hb dX7_shows_16 rfl (lv_at hl 2 rfl) ?_
        refine zr_obV ⟨hx, hb, hml, hown, hts⟩ (mt_mf_free l G ad m_status m_top m_bottom m_taped m_size m_token m_from m_end m_value m_faultKind m_faultPlace m_faults m_seen m_depth m_counted m_lead m_round m_tried m_triedMany m_drawn m_ranSteps m_isTold m_marks m_at m_names m_sort m_trayMany m_trays m_tape m_text m_opened t_1 m_then m_ways m_further m_canBe m_loops m_ran m_told0) (cwV 0 hts (lw_V q1855 q1857 qs102 q144 q1858) rfl rfl rfl hd_X7_free ⟨(Nat.le_of_ble_eq_true rfl), (Nat.le_of_ble_eq_true rfl)⟩) hP hK (zE_o hE hS) 0 7 rfl rfl rfl hl.1 rfl (Nat.le_of_ble_eq_true rfl) dX7_shows_17 ⟨Nat.le_refl _, Nat.le_refl _⟩ ?_
        refine lv_iload_n hx hb dX7_shows_20 rfl (lv_at hl 0 rfl) ?_
        refine lv_ishr hx hb dX7_shows_21 ?_
        refine lv_iconst (v := 1) hx hb dX7_shows_22 (by decide) ?_
        refine lv_iand hx hb dX7_shows_23 ?_
        refine lv_if_ne (tgt := 30) hx hb dX7_shows_24 (by decide) (fun c_3 => ?_) (fun c_3 => ?_)
        · refine lv_iconst (v := 5) hx hb dX7_shows_30 (by decide) ?_
          refine lv_aload_n hx hb dX7_shows_31 rfl (lv_at hl 2 rfl) ?_
          refine va_get (D := G.1) (ci := 7) (v := .ref (ad 1)) (C := RX7) (T := TX7) (N := 39) hx hb hts in_X7 hown hK.1 hP 0 rfl rfl 0 (Nat.le_of_ble_eq_true rfl) (hts _ q1467) (fun _ h => h) rfl dX7_shows_32 ?_
          refine lv_iconst (v := 3) hx hb dX7_shows_35 (by decide) ?_
          refine zr_iald 3 (v := m_at 3) hx hb hK hP 1 rfl rfl (Nat.le_of_ble_eq_true rfl) rfl (by decide) rfl dX7_shows_36 ?_
          refine lv_iload_n hx hb dX7_shows_37 rfl (lv_at hl 0 rfl) ?_
          refine lv_ishr hx hb dX7_shows_38 ?_
          refine lv_iconst (v := 1) hx hb dX7_shows_39 (by decide) ?_
          refine lv_iand hx hb dX7_shows_40 ?_
          have hb1 : ((((m_at 3) >>> ((nI k_2) &&& 31)) &&& 1)).toNatClampNeg ≤ 1 := z_b1le _
          refine zr_val (congrArg Value.int (z_b1 _)) ?_
          refine W.eq (g2 := F0 m 41 ls [.int (nI ((((m_at 3) >>> ((nI k_2) &&& 31)) &&& 1).toNatClampNeg)), .int 5]) rfl ?_
          refine zr_imulN 5 ((((m_at 3) >>> ((nI k_2) &&& 31)) &&& 1).toNatClampNeg) hx hb dX7_shows_41 ?_
          refine lv_aload_n hx hb dX7_shows_42 rfl (lv_at hl 2 rfl) ?_
          refine va_get (D := G.1) (ci := 7) (v := .ref (ad 9)) (C := RX7) (T := TX7) (N := 39) hx hb hts in_X7 hown hK.1 hP 0 rfl rfl 23 (Nat.le_of_ble_eq_true rfl) (hts _ q1490) (fun _ h => h) rfl dX7_shows_43 ?_
          refine lv_iload_n hx hb dX7_shows_46 rfl (lv_at hl 0 rfl) ?_
          refine zr_iald k_2 (v := t_1 k_2) hx hb hK hP 9 rfl rfl (Nat.le_of_ble_eq_true rfl) rfl (by omega) rfl dX7_shows_47 ?_
          refine lv_aload_n hx hb dX7_shows_48 rfl (lv_at hl 2 rfl) ?_
          refine va_get (D := G.1) (ci := 7) (v := .ref (ad 1)) (C := RX7) (T := TX7) (N := 39) hx hb hts in_X7 hown hK.1 hP 0 rfl rfl 0 (Nat.le_of_ble_eq_true rfl) (hts _ q1467) (fun _ h => h) rfl dX7_shows_49 ?_
          refine lv_iconst (v := 3) hx hb dX7_shows_52 (by decide) ?_
          refine zr_iald 3 (v := m_at 3) hx hb hK hP 1 rfl rfl (Nat.le_of_ble_eq_true rfl) rfl (by decide) rfl dX7_shows_53 ?_
          refine lv_iand hx hb dX7_shows_54 ?_
          refine zr_puS ⟨hx, hb, hml, hown, hts⟩ (mt_bitsN l ((t_1 k_2) &&& (m_at 3))) (va_cwS 1 hts (lw_S q1744 q1745 q144 q1746) rfl rfl rfl hd_X7_bits.2 ⟨(Nat.le_of_ble_eq_true rfl), (Nat.le_of_ble_eq_true rfl)⟩) rfl hl.1 rfl (Nat.le_of_ble_eq_true rfl) dX7_shows_55 ⟨Nat.le_refl _, Nat.le_refl _⟩ ?_
          have hbl : (zpc ((t_1 k_2) &&& (m_at 3))) ≤ 32 := zpc_le _
          refine zr_iaddN (5 * ((((m_at 3) >>> ((nI k_2) &&& 31)) &&& 1).toNatClampNeg)) (zpc ((t_1 k_2) &&& (m_at 3))) hx hb dX7_shows_58 ?_
          refine lv_istore_n (lv' := [(3, .int (nI ((5 * ((((m_at 3) >>> ((nI k_2) &&& 31)) &&& 1).toNatClampNeg)) + (zpc ((t_1 k_2) &&& (m_at 3)))))), (2, .int (nI k_2)), (1, .int s_2), (0, .ref (ad 0))]) hx hb dX7_shows_59 rfl hl (by decide) rfl (fun ls hl => ?_)
          refine lv_iload_n hx hb dX7_shows_60 rfl (lv_at hl 2 rfl) ?_
          refine lv_aload_n hx hb dX7_shows_61 rfl (lv_at hl 3 rfl) ?_
          refine va_get (D := G.1) (ci := 7) (v := .ref (ad 1)) (C := RX7) (T := TX7) (N := 39) hx hb hts in_X7 hown hK.1 hP 0 rfl rfl 0 (Nat.le_of_ble_eq_true rfl) (hts _ q1467) (fun _ h => h) rfl dX7_shows_62 ?_
          refine lv_bipush (v := 32) hx hb dX7_shows_65 (by decide) ?_
          refine lv_iload_n hx hb dX7_shows_67 rfl (lv_at hl 0 rfl) ?_
          refine zr_iaddN 32 ((5 * ((((m_at 3) >>> ((nI k_2) &&& 31)) &&& 1).toNatClampNeg)) + (zpc ((t_1 k_2) &&& (m_at 3)))) hx hb dX7_shows_68 ?_
          refine zr_iald (32 + ((5 * ((((m_at 3) >>> ((nI k_2) &&& 31)) &&& 1).toNatClampNeg)) + (zpc ((t_1 k_2) &&& (m_at 3))))) (v := m_at (32 + ((5 * ((((m_at 3) >>> ((nI k_2) &&& 31)) &&& 1).toNatClampNeg)) + (zpc ((t_1 k_2) &&& (m_at 3)))))) hx hb hK hP 1 rfl rfl (Nat.le_of_ble_eq_true rfl) rfl (by omega) rfl dX7_shows_69 ?_
          refine lv_if_ne (tgt := 79) hx hb dX7_shows_70 (by decide) (fun c_4 => ?_) (fun c_4 => ?_)
          · refine lv_iconst (v := 0) hx hb dX7_shows_79 (by decide) ?_
            refine lv_ior hx hb dX7_shows_80 ?_
            refine lv_istore_n (lv' := [(1, .int (s_2 ||| 0)), (3, .int (nI ((5 * ((((m_at 3) >>> ((nI k_2) &&& 31)) &&& 1).toNatClampNeg)) + (zpc ((t_1 k_2) &&& (m_at 3)))))), (2, .int (nI k_2)), (0, .ref (ad 0))]) hx hb dX7_shows_81 rfl hl (by decide) rfl (fun ls hl => ?_)
            refine lv_iinc (v := nI (k_2 + 1)) (lv' := [(2, .int (nI (k_2 + 1))), (1, .int (s_2 ||| 0)), (3, .int (nI ((5 * ((((m_at 3) >>> ((nI k_2) &&& 31)) &&& 1).toNatClampNeg)) + (zpc ((t_1 k_2) &&& (m_at 3)))))), (0, .ref (ad 0))]) hx hb dX7_shows_82 hl (k := 2) rfl (nI_add k_2 1) (by decide) rfl (fun ls hl => ?_)
            refine lv_goto (tgt := 8) hx hb dX7_shows_85 (by decide) ?_
            exact ih_2 (k_2 + 1) (s_2 ||| 0) hlt_2 (by omega) (zf_s hst_2 (by rw [mf_shows_B8, if_neg c_3, if_neg c_4])) H locs hP hD hS ls (lv_sub hl [0, 1, 3] rfl)
          · refine lv_iconst (v := 1) hx hb dX7_shows_73 (by decide) ?_
            refine lv_iload_n hx hb dX7_shows_74 rfl (lv_at hl 0 rfl) ?_
            refine lv_ishl hx hb dX7_shows_75 ?_
            refine lv_goto (tgt := 80) hx hb dX7_shows_76 (by decide) ?_
            refine lv_ior hx hb dX7_shows_80 ?_
            refine lv_istore_n (lv' := [(1, .int (s_2 ||| ((1 : Int32) <<< ((nI ((5 * ((((m_at 3) >>> ((nI k_2) &&& 31)) &&& 1).toNatClampNeg)) + (zpc ((t_1 k_2) &&& (m_at 3))))) &&& 31)))), (3, .int (nI ((5 * ((((m_at 3) >>> ((nI k_2) &&& 31)) &&& 1).toNatClampNeg)) + (zpc ((t_1 k_2) &&& (m_at 3)))))), (2, .int (nI k_2)), (0, .ref (ad 0))]) hx hb dX7_shows_81 rfl hl (by decide) rfl (fun ls hl => ?_)
            refine lv_iinc (v := nI (k_2 + 1)) (lv' := [(2, .int (nI (k_2 + 1))), (1, .int (s_2 ||| ((1 : Int32) <<< ((nI ((5 * ((((m_at 3) >>> ((nI k_2) &&& 31)) &&& 1).toNatClampNeg)) + (zpc ((t_1 k_2) &&& (m_at 3))))) &&& 31)))), (3, .int (nI ((5 * ((((m_at 3) >>> ((nI k_2) &&& 31)) &&& 1).toNatClampNeg)) + (zpc ((t_1 k_2) &&& (m_at 3)))))), (0, .ref (ad 0))]) hx hb dX7_shows_82 hl (k := 2) rfl (nI_add k_2 1) (by decide) rfl (fun ls hl => ?_)
            refine lv_goto (tgt := 8) hx hb dX7_shows_85 (by decide) ?_
            exact ih_2 (k_2 + 1) (s_2 ||| ((1 : Int32) <<< ((nI ((5 * ((((m_at 3) >>> ((nI k_2) &&& 31)) &&& 1).toNatClampNeg)) + (zpc ((t_1 k_2) &&& (m_at 3))))) &&& 31))) hlt_2 (by omega) (zf_s hst_2 (by rw [mf_shows_B8, if_neg c_3, if_pos c_4])) H locs hP hD hS ls (lv_sub hl [0, 1, 3] rfl)
        · refine lv_goto (tgt := 82) hx hb dX7_shows_27 (by decide) ?_
          refine lv_iinc (v := nI (k_2 + 1)) (lv' := [(2, .int (nI (k_2 + 1))), (1, .int s_2), (0, .ref (ad 0))]) hx hb dX7_shows_82 hl (k := 0) rfl (nI_add k_2 1) (by decide) rfl (fun ls hl => ?_)
          refine lv_goto (tgt := 8) hx hb dX7_shows_85 (by decide) ?_
          exact ih_2 (k_2 + 1) s_2 hlt_2 (by omega) (zf_s hst_2 (by rw [mf_shows_B8, if_pos c_3])) H locs hP hD hS ls (lv_sub hl [0, 1, 2] rfl)
  exact hlp_2 ((Wd * R) + 1) 0 0 (Nat.zero_le _) (by omega) rfl H locs hP hD hS ls (lv_sub hl [0, 1, 2] rfl)
def mf_dislikes (m_at : Nat → Int32) (ci : Nat) (lit : Nat) : Int32 :=
  (if (m_at (20 + (2 * ci))) ≤ (nI lit) then
    (if (nI lit) ≤ (m_at (20 + (2 * ci) + 1)) then
      0
    else
      ((nI lit) - (m_at (20 + (2 * ci) + 1))))
  else
    ((m_at (20 + (2 * ci))) - (nI lit)))
theorem hd_X7_dislikes : yX7_dislikes.cls = RX7 ∧ yX7_dislikes.cls ≠ "java/lang/invoke/MethodHandle" ∧ yX7_dislikes.cls ≠ "java/lang/invoke/VarHandle" ∧ (parseMethodDescriptor yX7_dislikes.desc).map (fun d => d.parameters.length) = some 2 := by decide +kernel
set_option maxHeartbeats 4000000 in
set_option maxRecDepth 100000 in
theorem mt_mf_dislikes (l : Launch) (G : zG) (ad : Nat → Nat) (m_status : Int32) (m_top : Int64) (m_bottom : Int64) (m_taped : Int32) (m_size : Int32) (m_token : Int32) (m_from : Int32) (m_end : Int32) (m_value : Int32) (m_faultKind : Int32) (m_faultPlace : Int32) (m_faults : Int32) (m_seen : Int32) (m_depth : Int32) (m_counted : Int32) (m_lead : Int32) (m_round : Int32) (m_tried : Int32) (m_triedMany : Int32) (m_drawn : Int32) (m_ranSteps : Int32) (m_isTold : Bool) (m_marks : Int32) (m_at : Nat → Int32) (m_names : Nat → Int64) (m_sort : Nat → Int32) (m_trayMany : Nat → Int32) (m_trays : Nat → Int64) (m_tape : Nat → Int32) (m_text : Nat → Int32) (m_opened : Nat → Int32) (m_beside : Nat → Int32) (m_then : Nat → Int32) (m_ways : Nat → Int64) (m_further : Nat → Int64) (m_canBe : Nat → Int32) (m_loops : Nat → Int32) (m_ran : Nat → Int32) (m_told0 : Nat → Int32) (Wd : Nat) (R : Nat) (nr : Nat) (nc : Nat) (ci : Nat) (lit : Nat) (hG : mOK m_at Wd R nr nc) (hci : ci < 6) (hlit : lit < 2 ^ 31) : Met l yX7_dislikes (ws_ yX7_dislikes cX7_dislikes 4 (some .int)) (zR 1 0 0) (zPo G [.ref (ad 0), .int (nI ci), .int (nI lit)] (mW G ad m_status m_top m_bottom m_taped m_size m_token m_from m_end m_value m_faultKind m_faultPlace m_faults m_seen m_depth m_counted m_lead m_round m_tried m_triedMany m_drawn m_ranSteps m_isTold m_marks m_at m_names m_sort m_trayMany m_trays m_tape m_text m_opened m_beside m_then m_ways m_further m_canBe m_loops m_ran m_told0)) (k2_QcV (.int (mf_dislikes m_at ci lit))) 0 0 (fun _ => False) := by
  refine zr_entO (by decide) (Nat.le_of_ble_eq_true rfl) ?_
  intro p e s m below meth c ⟨hx, hb, hr, hml, hown, hts, hlocks, hnm⟩ ls hl hP hK hE
  have hown : s.vm.findClass RX7 = some m.cls := hown
  have hl : lv_has ls 4 [(0, .ref (ad 0)), (1, .int (nI ci)), (2, .int (nI lit))] := hl
  have hWR := mOK_WR hG
  have hW0 := mOK_W0 hG
  have hW5 := mOK_W5 hG
  have hR0 := mOK_R0 hG
  have hR6 := mOK_R6 hG
  have hn4 := mOK_n4 hG
  have hc6 := mOK_c6 hG
  refine lv_bipush (v := 20) hx hb dX7_dislikes_0 (by decide) ?_
  refine lv_iconst (v := 2) hx hb dX7_dislikes_2 (by decide) ?_
  refine lv_iload_n hx hb dX7_dislikes_3 rfl (lv_at hl 1 rfl) ?_
  refine zr_imulN 2 ci hx hb dX7_dislikes_4 ?_
  refine zr_iaddN 20 (2 * ci) hx hb dX7_dislikes_5 ?_
  refine lv_istore_n (lv' := [(3, .int (nI (20 + (2 * ci)))), (0, .ref (ad 0)), (1, .int (nI ci)), (2, .int (nI lit))]) hx hb dX7_dislikes_6 rfl hl (by decide) rfl (fun ls hl => ?_)
  refine lv_iload_n hx hb dX7_dislikes_7 rfl (lv_at hl 3 rfl) ?_
  refine lv_aload_n hx hb dX7_dislikes_8 rfl (lv_at hl 1 rfl) ?_
  refine va_get (D := G.1) (ci := 7) (v := .ref (ad 1)) (C := RX7) (T := TX7) (N := 39) hx hb hts in_X7 hown hK.1 hP 0 rfl rfl 0 (Nat.le_of_ble_eq_true rfl) (hts _ q1467) (fun _ h => h) rfl dX7_dislikes_9 ?_
  refine lv_iload_n hx hb dX7_dislikes_12 rfl (lv_at hl 0 rfl) ?_
  refine zr_iald (20 + (2 * ci)) (v := m_at (20 + (2 * ci))) hx hb hK hP 1 rfl rfl (Nat.le_of_ble_eq_true rfl) rfl (by omega) rfl dX7_dislikes_13 ?_
  refine lv_icmp_ge (tgt := 28) hx hb dX7_dislikes_14 (by decide) (fun c_1 => ?_) (fun c_1 => ?_)
  · refine lv_iload_n hx hb dX7_dislikes_28 rfl (lv_at hl 3 rfl) ?_
    refine lv_aload_n hx hb dX7_dislikes_29 rfl (lv_at hl 1 rfl) ?_
    refine va_get (D := G.1) (ci := 7) (v := .ref (ad 1)) (C := RX7) (T := TX7) (N := 39) hx hb hts in_X7 hown hK.1 hP 0 rfl rfl 0 (Nat.le_of_ble_eq_true rfl) (hts _ q1467) (fun _ h => h) rfl dX7_dislikes_30 ?_
    refine lv_iload_n hx hb dX7_dislikes_33 rfl (lv_at hl 0 rfl) ?_
    refine lv_iconst (v := 1) hx hb dX7_dislikes_34 (by decide) ?_
    refine zr_iaddN (20 + (2 * ci)) 1 hx hb dX7_dislikes_35 ?_
    refine zr_val (v' := .int (nI (20 + (2 * ci) + 1))) (by rfl) ?_
    refine zr_iald (20 + (2 * ci) + 1) (v := m_at (20 + (2 * ci) + 1)) hx hb hK hP 1 rfl rfl (Nat.le_of_ble_eq_true rfl) rfl (by omega) rfl dX7_dislikes_36 ?_
    refine lv_icmp_le (tgt := 53) hx hb dX7_dislikes_37 (by decide) (fun c_2 => ?_) (fun c_2 => ?_)
    · refine lv_iconst (v := 0) hx hb dX7_dislikes_53 (by decide) ?_
      have e_ : mf_dislikes m_at ci lit = 0 := by rw [mf_dislikes, if_pos c_1, if_pos c_2]
      exact zr_oi hx hb hr hlocks dX7_dislikes_54 (congrArg Value.int e_)
    · refine lv_iload_n hx hb dX7_dislikes_40 rfl (lv_at hl 3 rfl) ?_
      refine lv_aload_n hx hb dX7_dislikes_41 rfl (lv_at hl 1 rfl) ?_
      refine va_get (D := G.1) (ci := 7) (v := .ref (ad 1)) (C := RX7) (T := TX7) (N := 39) hx hb hts in_X7 hown hK.1 hP 0 rfl rfl 0 (Nat.le_of_ble_eq_true rfl) (hts _ q1467) (fun _ h => h) rfl dX7_dislikes_42 ?_
      refine lv_iload_n hx hb dX7_dislikes_45 rfl (lv_at hl 0 rfl) ?_
      refine lv_iconst (v := 1) hx hb dX7_dislikes_46 (by decide) ?_
      refine zr_iaddN (20 + (2 * ci)) 1 hx hb dX7_dislikes_47 ?_
      refine zr_val (v' := .int (nI (20 + (2 * ci) + 1))) (by rfl) ?_
      refine zr_iald (20 + (2 * ci) + 1) (v := m_at (20 + (2 * ci) + 1)) hx hb hK hP 1 rfl rfl (Nat.le_of_ble_eq_true rfl) rfl (by omega) rfl dX7_dislikes_48 ?_
      refine lv_isub hx hb dX7_dislikes_49 ?_
      refine lv_goto (tgt := 54) hx hb dX7_dislikes_50 (by decide) ?_
      have e_ : mf_dislikes m_at ci lit = (nI lit) - (m_at (20 + (2 * ci) + 1)) := by rw [mf_dislikes, if_pos c_1, if_neg c_2]
      exact zr_oi hx hb hr hlocks dX7_dislikes_54 (congrArg Value.int e_)
  · refine lv_aload_n hx hb dX7_dislikes_17 rfl (lv_at hl 1 rfl) ?_
    refine va_get (D := G.1) (ci := 7) (v := .ref (ad 1)) (C := RX7) (T := TX7) (N := 39) hx hb hts in_X7 hown hK.1 hP 0 rfl rfl 0 (Nat.le_of_ble_eq_true rfl) (hts _ q1467) (fun _ h => h) rfl dX7_dislikes_18 ?_
    refine lv_iload_n hx hb dX7_dislikes_21 rfl (lv_at hl 0 rfl) ?_
    refine zr_iald (20 + (2 * ci)) (v := m_at (20 + (2 * ci))) hx hb hK hP 1 rfl rfl (Nat.le_of_ble_eq_true rfl) rfl (by omega) rfl dX7_dislikes_22 ?_
    refine lv_iload_n hx hb dX7_dislikes_23 rfl (lv_at hl 3 rfl) ?_
    refine lv_isub hx hb dX7_dislikes_24 ?_
    refine lv_goto (tgt := 54) hx hb dX7_dislikes_25 (by decide) ?_
    have e_ : mf_dislikes m_at ci lit = (m_at (20 + (2 * ci))) - (nI lit) := by rw [mf_dislikes, if_neg c_1]
    exact zr_oi hx hb hr hlocks dX7_dislikes_54 (congrArg Value.int e_)
def mf_voteOf_B11 (m_at : Nat → Int32) (Wd : Nat) (R : Nat) (nr : Nat) (ci : Nat) (t_1 : (Nat → Int32)) (k_2 : Nat) (s_2 : Int32 × Int32) : Int32 × Int32 :=
  (if s_2.2 = (-1) then
    (mf_dislikes m_at ci (zpc (mf_becomes m_at t_1 Wd R (m_at 3) (nI k_2))), nI k_2)
  else
    (if (mf_dislikes m_at ci (zpc (mf_becomes m_at t_1 Wd R (m_at 3) (nI k_2)))) < s_2.1 then
      (mf_dislikes m_at ci (zpc (mf_becomes m_at t_1 Wd R (m_at 3) (nI k_2))), nI k_2)
    else
      (s_2.1, s_2.2)))
def mf_voteOf_L11 (m_at : Nat → Int32) (Wd : Nat) (R : Nat) (nr : Nat) (ci : Nat) (t_1 : (Nat → Int32)) (s_2 : Int32 × Int32) : Int32 × Int32 := zf (mf_voteOf_B11 m_at Wd R nr ci t_1) s_2 nr
def mf_voteOf (m_at : Nat → Int32) (m_beside : Nat → Int32) (Wd : Nat) (R : Nat) (nr : Nat) (ci : Nat) : Int32 × (Nat → Int32) :=
  zlet (mf_laysNear m_at m_beside Wd R) (fun t_1 =>
  zlet (mf_voteOf_L11 m_at Wd R nr ci t_1 (0, (-1))) (fun s_2 =>
  (s_2.2, t_1)))
theorem hd_X7_voteOf : yX7_voteOf.cls = RX7 ∧ yX7_voteOf.cls ≠ "java/lang/invoke/MethodHandle" ∧ yX7_voteOf.cls ≠ "java/lang/invoke/VarHandle" ∧ (parseMethodDescriptor yX7_voteOf.desc).map (fun d => d.parameters.length) = some 1 := by decide +kernel
set_option maxHeartbeats 4000000 in
set_option maxRecDepth 100000 in
theorem mt_mf_voteOf (l : Launch) (G : zG) (ad : Nat → Nat) (m_status : Int32) (m_top : Int64) (m_bottom : Int64) (m_taped : Int32) (m_size : Int32) (m_token : Int32) (m_from : Int32) (m_end : Int32) (m_value : Int32) (m_faultKind : Int32) (m_faultPlace : Int32) (m_faults : Int32) (m_seen : Int32) (m_depth : Int32) (m_counted : Int32) (m_lead : Int32) (m_round : Int32) (m_tried : Int32) (m_triedMany : Int32) (m_drawn : Int32) (m_ranSteps : Int32) (m_isTold : Bool) (m_marks : Int32) (m_at : Nat → Int32) (m_names : Nat → Int64) (m_sort : Nat → Int32) (m_trayMany : Nat → Int32) (m_trays : Nat → Int64) (m_tape : Nat → Int32) (m_text : Nat → Int32) (m_opened : Nat → Int32) (m_beside : Nat → Int32) (m_then : Nat → Int32) (m_ways : Nat → Int64) (m_further : Nat → Int64) (m_canBe : Nat → Int32) (m_loops : Nat → Int32) (m_ran : Nat → Int32) (m_told0 : Nat → Int32) (Wd : Nat) (R : Nat) (nr : Nat) (nc : Nat) (ci : Nat) (hG : mOK m_at Wd R nr nc) (hci : ci < 6) (sz : Nat) : Met l yX7_voteOf (ws_ yX7_voteOf cX7_voteOf 6 (some .int)) (zR 4 0 0) (zPm G sz [.ref (ad 0), .int (nI ci)] (mW G ad m_status m_top m_bottom m_taped m_size m_token m_from m_end m_value m_faultKind m_faultPlace m_faults m_seen m_depth m_counted m_lead m_round m_tried m_triedMany m_drawn m_ranSteps m_isTold m_marks m_at m_names m_sort m_trayMany m_trays m_tape m_text m_opened m_beside m_then m_ways m_further m_canBe m_loops m_ran m_told0)) (zQm G (True) (some (.int ((mf_voteOf m_at m_beside Wd R nr ci).1))) (mW G ad m_status m_top m_bottom m_taped m_size m_token m_from m_end m_value m_faultKind m_faultPlace m_faults m_seen m_depth m_counted m_lead m_round m_tried m_triedMany m_drawn m_ranSteps m_isTold m_marks m_at m_names m_sort m_trayMany m_trays m_tape m_text m_opened ((mf_voteOf m_at m_beside Wd R nr ci).2) m_then m_ways m_further m_canBe m_loops m_ran m_told0) (va_A (mW G ad m_status m_top m_bottom m_taped m_size m_token m_from m_end m_value m_faultKind m_faultPlace m_faults m_seen m_depth m_counted m_lead m_round m_tried m_triedMany m_drawn m_ranSteps m_isTold m_marks m_at m_names m_sort m_trayMany m_trays m_tape m_text m_opened m_beside m_then m_ways m_further m_canBe m_loops m_ran m_told0) sz)) 0 0 (va_A (mW G ad m_status m_top m_bottom m_taped m_size m_token m_from m_end m_value m_faultKind m_faultPlace m_faults m_seen m_depth m_counted m_lead m_round m_tried m_triedMany m_drawn m_ranSteps m_isTold m_marks m_at m_names m_sort m_trayMany m_trays m_tape m_text m_opened m_beside m_then m_ways m_further m_canBe m_loops m_ran m_told0) sz) := by
  refine zr_entM (by decide) (Nat.le_of_ble_eq_true rfl) ?_
  intro p e s m below meth c ⟨hx, hb, hr, hml, hown, hts, hlocks, hnm⟩ ls hl hP hK A hE hA hD hS
  have hown : s.vm.findClass RX7 = some m.cls := hown
  have hl : lv_has ls 6 [(0, .ref (ad 0)), (1, .int (nI ci))] := hl
  obtain ⟨H, hH⟩ : ∃ H, H = s.heap := ⟨_, rfl⟩
  obtain ⟨locs, hlo⟩ : ∃ L : List Loc, L = [] := ⟨_, rfl⟩
  rw [← hH] at hP
  have hS : va_S A s.heap H locs := by rw [hH, hlo]; exact va_S.rf
  have hgo : W p l e (zR 4 0 0) s m ([.ref (ad 0), .int (nI ci)] : List Value).toArray below meth c H locs 0 0 (MQ below (zQm G (True) (some (.int ((mf_voteOf m_at m_beside Wd R nr ci).1))) (mW G ad m_status m_top m_bottom m_taped m_size m_token m_from m_end m_value m_faultKind m_faultPlace m_faults m_seen m_depth m_counted m_lead m_round m_tried m_triedMany m_drawn m_ranSteps m_isTold m_marks m_at m_names m_sort m_trayMany m_trays m_tape m_text m_opened ((mf_voteOf m_at m_beside Wd R nr ci).2) m_then m_ways m_further m_canBe m_loops m_ran m_told0) A) ([.ref (ad 0), .int (nI ci)] : List Value).toArray s 0 0 A) (F0 m 0 ls []) := ?_
  · rw [hH, hlo] at hgo; exact hgo
  clear hH hlo
  have hWR := mOK_WR hG
  have hW0 := mOK_W0 hG
  have hW5 := mOK_W5 hG
  have hR0 := mOK_R0 hG
  have hR6 := mOK_R6 hG
  have hn4 := mOK_n4 hG
  have hc6 := mOK_c6 hG
  refine lv_aload_n hx hb dX7_voteOf_0 rfl (lv_at hl 0 rfl) ?_
  refine zr_muV (F := mf_laysNear m_at m_beside Wd R) (ff := fun t_1 => True) (rr := fun t_1 => none) (w1 := fun t_1 => (mW G ad m_status m_top m_bottom m_taped m_size m_token m_from m_end m_value m_faultKind m_faultPlace m_faults m_seen m_depth m_counted m_lead m_round m_tried m_triedMany m_drawn m_ranSteps m_isTold m_marks m_at m_names m_sort m_trayMany m_trays m_tape m_text m_opened t_1 m_then m_ways m_further m_canBe m_loops m_ran m_told0)) ⟨hx, hb, hml, hown, hts⟩ (mt_mf_laysNear l G ad m_status m_top m_bottom m_taped m_size m_token m_from m_end m_value m_faultKind m_faultPlace m_faults m_seen m_depth m_counted m_lead m_round m_tried m_triedMany m_drawn m_ranSteps m_isTold m_marks m_at m_names m_sort m_trayMany m_trays m_tape m_text m_opened m_beside m_then m_ways m_further m_canBe m_loops m_ran m_told0 Wd R nr nc hG H.size) (cwV 0 hts (lw_V q1889 q1891 qs105 q144 q1892) rfl rfl rfl hd_X7_laysNear ⟨(Nat.le_of_ble_eq_true rfl), (Nat.le_of_ble_eq_true rfl)⟩) hP hD hS hA hK hE 0 7 rfl rfl rfl hl.1 rfl (Nat.le_of_ble_eq_true rfl) dX7_voteOf_1 ⟨Nat.le_refl _, Nat.le_refl _⟩ (fun t_1 ht_1 hft_1 H locs hP hD hS _ => ?_)
  refine W.eq (g2 := F0 m 4 ls []) rfl ?_
  refine lv_iconst (v := (-1)) hx hb dX7_voteOf_4 (by decide) ?_
  refine lv_istore_n (lv' := [(2, .int (-1)), (0, .ref (ad 0)), (1, .int (nI ci))]) hx hb dX7_voteOf_5 rfl hl (by decide) rfl (fun ls hl => ?_)
  refine lv_iconst (v := 0) hx hb dX7_voteOf_6 (by decide) ?_
  refine lv_istore_n (lv' := [(3, .int 0), (2, .int (-1)), (0, .ref (ad 0)), (1, .int (nI ci))]) hx hb dX7_voteOf_7 rfl hl (by decide) rfl (fun ls hl => ?_)
  refine lv_iconst (v := 0) hx hb dX7_voteOf_8 (by decide) ?_
  refine lv_istore (lv' := [(4, .int 0), (3, .int 0), (2, .int (-1)), (0, .ref (ad 0)), (1, .int (nI ci))]) hx hb dX7_voteOf_9 hl (by decide) rfl (fun ls hl => ?_)
  have hlp_2 : ∀ (n k_2 : Nat) (s_2 : Int32 × Int32), k_2 ≤ nr → nr < k_2 + n → zf (mf_voteOf_B11 m_at Wd R nr ci t_1) (0, (-1)) k_2 = s_2 → ∀ (H : Heap) (locs : List Loc), va_P G.1 zcl (mW G ad m_status m_top m_bottom m_taped m_size m_token m_from m_end m_value m_faultKind m_faultPlace m_faults m_seen m_depth m_counted m_lead m_round m_tried m_triedMany m_drawn m_ranSteps m_isTold m_marks m_at m_names m_sort m_trayMany m_trays m_tape m_text m_opened t_1 m_then m_ways m_further m_canBe m_loops m_ran m_told0) H → va_D A (mW G ad m_status m_top m_bottom m_taped m_size m_token m_from m_end m_value m_faultKind m_faultPlace m_faults m_seen m_depth m_counted m_lead m_round m_tried m_triedMany m_drawn m_ranSteps m_isTold m_marks m_at m_names m_sort m_trayMany m_trays m_tape m_text m_opened t_1 m_then m_ways m_further m_canBe m_loops m_ran m_told0) → va_S A s.heap H locs → ∀ ls : Array Slot, lv_has ls 6 [(4, .int (nI k_2)), (3, .int s_2.1), (2, .int s_2.2), (0, .ref (ad 0)), (1, .int (nI ci))] → W p l e (zR 4 0 0) s m ([.ref (ad 0), .int (nI ci)] : List Value).toArray below meth c H locs 0 0 (MQ below (zQm G (True) (some (.int ((mf_voteOf m_at m_beside Wd R nr ci).1))) (mW G ad m_status m_top m_bottom m_taped m_size m_token m_from m_end m_value m_faultKind m_faultPlace m_faults m_seen m_depth m_counted m_lead m_round m_tried m_triedMany m_drawn m_ranSteps m_isTold m_marks m_at m_names m_sort m_trayMany m_trays m_tape m_text m_opened ((mf_voteOf m_at m_beside Wd R nr ci).2) m_then m_ways m_further m_canBe m_loops m_ran m_told0) A) ([.ref (ad 0), .int (nI ci)] : List Value).toArray s 0 0 A) (F0 m 11 ls []) := by
    intro n
    induction n with
    | zero => intro k_2 s_2 h1 h2; exact absurd h2 (by omega)
    | succ n ih_2 =>
      intro k_2 s_2 hk_2 hn_2 hst_2 H locs hP hD hS ls hl
      refine lv_iload hx hb dX7_voteOf_11 (lv_at hl 0 rfl) ?_
      refine lv_aload_n hx hb dX7_voteOf_13 rfl (lv_at hl 3 rfl) ?_
      refine va_get (D := G.1) (ci := 7) (v := .ref (ad 1)) (C := RX7) (T := TX7) (N := 39) hx hb hts in_X7 hown hK.1 hP 0 rfl rfl 0 (Nat.le_of_ble_eq_true rfl) (hts _ q1467) (fun _ h => h) rfl dX7_voteOf_14 ?_
      refine lv_iconst (v := 5) hx hb dX7_voteOf_17 (by decide) ?_
      refine zr_iald 5 (v := nI nr) hx hb hK hP 1 rfl rfl (Nat.le_of_ble_eq_true rfl) rfl (by decide) (mOK_nr hG) dX7_voteOf_18 ?_
      refine zr_ge k_2 nr (by omega) (by omega) (tgt := 70) hx hb dX7_voteOf_19 (by decide) (fun c_2 => ?_) (fun c_2 => ?_)
      · have ek_2 : k_2 = nr := Nat.le_antisymm hk_2 c_2
        have hs_2 : mf_voteOf_L11 m_at Wd R nr ci t_1 (0, (-1)) = s_2 := by rw [ek_2] at hst_2; exact hst_2
        have hl := lv_sub hl (l' := _) [1, 2, 3, 4] rfl
        refine lv_iload_n hx hb dX7_voteOf_70 rfl (lv_at hl 1 rfl) ?_
        have e_ : mf_voteOf m_at m_beside Wd R nr ci = (s_2.2, t_1) := by rw [mf_voteOf, zlet_eq ht_1, zlet_eq hs_2]
        exact zr_mi hx hb hr hlocks hP hD hS dX7_voteOf_71 (by rw [e_])  (by rw [e_]) trivial
      · have hlt_2 : k_2 < nr := Nat.lt_of_not_le c_2
        refine lv_aload_n hx hb dX7_voteOf_22 rfl (lv_at hl 3 rfl) ?_
        refine lv_iload_n hx hb dX7_voteOf_23 rfl (lv_at hl 4 rfl) ?_
        refine lv_aload_n hx hb dX7_voteOf_24 rfl (lv_at hl 3 rfl) ?_
        refine lv_aload_n hx hb dX7_voteOf_25 rfl (lv_at hl 3 rfl) ?_
        refine va_get (D := G.1) (ci := 7) (v := .ref (ad 1)) (C := RX7) (T := TX7) (N := 39) hx hb hts in_X7 hown hK.1 hP 0 rfl rfl 0 (Nat.le_of_ble_eq_true rfl) (hts _ q1467) (fun _ h => h) rfl dX7_voteOf_26 ?_
        refine lv_iconst (v := 3) hx hb dX7_voteOf_29 (by decide) ?_
        refine zr_iald 3 (v := m_at 3) hx hb hK hP 1 rfl rfl (Nat.le_of_ble_eq_true rfl) rfl (by decide) rfl dX7_voteOf_30 ?_
        refine lv_iload hx hb dX7_voteOf_31 (lv_at hl 0 rfl) ?_
        refine zr_obV ⟨hx, hb, hml, hown, hts⟩ (mt_mf_becomes l G ad m_status m_top m_bottom m_taped m_size m_token m_from m_end m_value m_faultKind m_faultPlace m_faults m_seen m_depth m_counted m_lead m_round m_tried m_triedMany m_drawn m_ranSteps m_isTold m_marks m_at m_names m_sort m_trayMany m_trays m_tape m_text m_opened t_1 m_then m_ways m_further m_canBe m_loops m_ran m_told0 Wd R nr nc (m_at 3) (nI k_2) hG (Or.inr ⟨nI_pos (by omega), by rw [nI_clamp (by omega)]; omega⟩)) (cwV 2 hts (lw_V q1893 q1895 qs106 q144 q1896) rfl rfl rfl hd_X7_becomes ⟨(Nat.le_of_ble_eq_true rfl), (Nat.le_of_ble_eq_true rfl)⟩) hP hK (zE_o hE hS) 0 7 rfl rfl rfl hl.1 rfl (Nat.le_of_ble_eq_true rfl) dX7_voteOf_33 ⟨Nat.le_refl _, Nat.le_refl _⟩ ?_
        refine zr_puS ⟨hx, hb, hml, hown, hts⟩ (mt_bitsN l (mf_becomes m_at t_1 Wd R (m_at 3) (nI k_2))) (va_cwS 1 hts (lw_S q1744 q1745 q144 q1746) rfl rfl rfl hd_X7_bits.2 ⟨(Nat.le_of_ble_eq_true rfl), (Nat.le_of_ble_eq_true rfl)⟩) rfl hl.1 rfl (Nat.le_of_ble_eq_true rfl) dX7_voteOf_36 ⟨Nat.le_refl _, Nat.le_refl _⟩ ?_
        have hbl : (zpc (mf_becomes m_at t_1 Wd R (m_at 3) (nI k_2))) ≤ 32 := zpc_le _
        refine zr_obV ⟨hx, hb, hml, hown, hts⟩ (mt_mf_dislikes l G ad m_status m_top m_bottom m_taped m_size m_token m_from m_end m_value m_faultKind m_faultPlace m_faults m_seen m_depth m_counted m_lead m_round m_tried m_triedMany m_drawn m_ranSteps m_isTold m_marks m_at m_names m_sort m_trayMany m_trays m_tape m_text m_opened t_1 m_then m_ways m_further m_canBe m_loops m_ran m_told0 Wd R nr nc ci (zpc (mf_becomes m_at t_1 Wd R (m_at 3) (nI k_2))) hG hci (by omega)) (cwV 2 hts (lw_V q2054 q2056 qs121 q144 q2057) rfl rfl rfl hd_X7_dislikes ⟨(Nat.le_of_ble_eq_true rfl), (Nat.le_of_ble_eq_true rfl)⟩) hP hK (zE_o hE hS) 0 7 rfl rfl rfl hl.1 rfl (Nat.le_of_ble_eq_true rfl) dX7_voteOf_39 ⟨Nat.le_refl _, Nat.le_refl _⟩ ?_
        refine lv_istore (lv' := [(5, .int (mf_dislikes m_at ci (zpc (mf_becomes m_at t_1 Wd R (m_at 3) (nI k_2))))), (4, .int (nI k_2)), (3, .int s_2.1), (2, .int s_2.2), (0, .ref (ad 0)), (1, .int (nI ci))]) hx hb dX7_voteOf_42 hl (by decide) rfl (fun ls hl => ?_)
        refine lv_iload_n hx hb dX7_voteOf_44 rfl (lv_at hl 3 rfl) ?_
        refine lv_iconst (v := (-1)) hx hb dX7_voteOf_45 (by decide) ?_
        refine lv_icmp_eq (tgt := 58) hx hb dX7_voteOf_46 (by decide) (fun c_3 => ?_) (fun c_3 => ?_)
        · refine lv_iload hx hb dX7_voteOf_58 (lv_at hl 1 rfl) ?_
          refine lv_istore_n (lv' := [(2, .int (nI k_2)), (5, .int (mf_dislikes m_at ci (zpc (mf_becomes m_at t_1 Wd R (m_at 3) (nI k_2))))), (4, .int (nI k_2)), (3, .int s_2.1), (0, .ref (ad 0)), (1, .int (nI ci))]) hx hb dX7_voteOf_60 rfl hl (by decide) rfl (fun ls hl => ?_)
          refine lv_iload hx hb dX7_voteOf_61 (lv_at hl 1 rfl) ?_
          refine lv_istore_n (lv' := [(3, .int (mf_dislikes m_at ci (zpc (mf_becomes m_at t_1 Wd R (m_at 3) (nI k_2))))), (2, .int (nI k_2)), (5, .int (mf_dislikes m_at ci (zpc (mf_becomes m_at t_1 Wd R (m_at 3) (nI k_2))))), (4, .int (nI k_2)), (0, .ref (ad 0)), (1, .int (nI ci))]) hx hb dX7_voteOf_63 rfl hl (by decide) rfl (fun ls hl => ?_)
          refine lv_iinc (v := nI (k_2 + 1)) (lv' := [(4, .int (nI (k_2 + 1))), (3, .int (mf_dislikes m_at ci (zpc (mf_becomes m_at t_1 Wd R (m_at 3) (nI k_2))))), (2, .int (nI k_2)), (5, .int (mf_dislikes m_at ci (zpc (mf_becomes m_at t_1 Wd R (m_at 3) (nI k_2))))), (0, .ref (ad 0)), (1, .int (nI ci))]) hx hb dX7_voteOf_64 hl (k := 3) rfl (nI_add k_2 1) (by decide) rfl (fun ls hl => ?_)
          refine lv_goto (tgt := 11) hx hb dX7_voteOf_67 (by decide) ?_
          exact ih_2 (k_2 + 1) (mf_dislikes m_at ci (zpc (mf_becomes m_at t_1 Wd R (m_at 3) (nI k_2))), nI k_2) hlt_2 (by omega) (zf_s hst_2 (by rw [mf_voteOf_B11, if_pos c_3])) H locs hP hD hS ls (lv_sub hl [0, 1, 2, 4, 5] rfl)
        · refine lv_iload hx hb dX7_voteOf_49 (lv_at hl 0 rfl) ?_
          refine lv_iload_n hx hb dX7_voteOf_51 rfl (lv_at hl 2 rfl) ?_
          refine lv_icmp_lt (tgt := 58) hx hb dX7_voteOf_52 (by decide) (fun c_4 => ?_) (fun c_4 => ?_)
          · refine lv_iload hx hb dX7_voteOf_58 (lv_at hl 1 rfl) ?_
            refine lv_istore_n (lv' := [(2, .int (nI k_2)), (5, .int (mf_dislikes m_at ci (zpc (mf_becomes m_at t_1 Wd R (m_at 3) (nI k_2))))), (4, .int (nI k_2)), (3, .int s_2.1), (0, .ref (ad 0)), (1, .int (nI ci))]) hx hb dX7_voteOf_60 rfl hl (by decide) rfl (fun ls hl => ?_)
            refine lv_iload hx hb dX7_voteOf_61 (lv_at hl 1 rfl) ?_
            refine lv_istore_n (lv' := [(3, .int (mf_dislikes m_at ci (zpc (mf_becomes m_at t_1 Wd R (m_at 3) (nI k_2))))), (2, .int (nI k_2)), (5, .int (mf_dislikes m_at ci (zpc (mf_becomes m_at t_1 Wd R (m_at 3) (nI k_2))))), (4, .int (nI k_2)), (0, .ref (ad 0)), (1, .int (nI ci))]) hx hb dX7_voteOf_63 rfl hl (by decide) rfl (fun ls hl => ?_)
            refine lv_iinc (v := nI (k_2 + 1)) (lv' := [(4, .int (nI (k_2 + 1))), (3, .int (mf_dislikes m_at ci (zpc (mf_becomes m_at t_1 Wd R (m_at 3) (nI k_2))))), (2, .int (nI k_2)), (5, .int (mf_dislikes m_at ci (zpc (mf_becomes m_at t_1 Wd R (m_at 3) (nI k_2))))), (0, .ref (ad 0)), (1, .int (nI ci))]) hx hb dX7_voteOf_64 hl (k := 3) rfl (nI_add k_2 1) (by decide) rfl (fun ls hl => ?_)
            refine lv_goto (tgt := 11) hx hb dX7_voteOf_67 (by decide) ?_
            exact ih_2 (k_2 + 1) (mf_dislikes m_at ci (zpc (mf_becomes m_at t_1 Wd R (m_at 3) (nI k_2))), nI k_2) hlt_2 (by omega) (zf_s hst_2 (by rw [mf_voteOf_B11, if_neg c_3, if_pos c_4])) H locs hP hD hS ls (lv_sub hl [0, 1, 2, 4, 5] rfl)
          · refine lv_goto (tgt := 64) hx hb dX7_voteOf_55 (by decide) ?_
            refine lv_iinc (v := nI (k_2 + 1)) (lv' := [(4, .int (nI (k_2 + 1))), (5, .int (mf_dislikes m_at ci (zpc (mf_becomes m_at t_1 Wd R (m_at 3) (nI k_2))))), (3, .int s_2.1), (2, .int s_2.2), (0, .ref (ad 0)), (1, .int (nI ci))]) hx hb dX7_voteOf_64 hl (k := 1) rfl (nI_add k_2 1) (by decide) rfl (fun ls hl => ?_)
            refine lv_goto (tgt := 11) hx hb dX7_voteOf_67 (by decide) ?_
            exact ih_2 (k_2 + 1) (s_2.1, s_2.2) hlt_2 (by omega) (zf_s hst_2 (by rw [mf_voteOf_B11, if_neg c_3, if_neg c_4])) H locs hP hD hS ls (lv_sub hl [0, 2, 3, 4, 5] rfl)
  exact hlp_2 (nr + 1) 0 (0, (-1)) (Nat.zero_le _) (by omega) rfl H locs hP hD hS ls (lv_sub hl [0, 1, 2, 3, 4] rfl)
def mf_vote (m_at : Nat → Int32) (m_beside : Nat → Int32) (Wd : Nat) (R : Nat) (nr : Nat) (nc : Nat) (ci : Int32) : Int32 × Int32 × (Nat → Int32) :=
  (if (mf_isCitizen nc ci) = true then
    zlet (mf_voteOf m_at m_beside Wd R nr ci.toNatClampNeg) (fun t_3 =>
    zlet (mf_orNone t_3.1) (fun t_4 =>
    (t_4.1, t_4.2, t_3.2)))
  else
    ((-1), 1, m_beside))
theorem hd_X7_vote : yX7_vote.cls = RX7 ∧ yX7_vote.cls ≠ "java/lang/invoke/MethodHandle" ∧ yX7_vote.cls ≠ "java/lang/invoke/VarHandle" ∧ (parseMethodDescriptor yX7_vote.desc).map (fun d => d.parameters.length) = some 1 := by decide +kernel
set_option maxHeartbeats 4000000 in
set_option maxRecDepth 100000 in
theorem mt_mf_vote (l : Launch) (G : zG) (ad : Nat → Nat) (m_status : Int32) (m_top : Int64) (m_bottom : Int64) (m_taped : Int32) (m_size : Int32) (m_token : Int32) (m_from : Int32) (m_end : Int32) (m_value : Int32) (m_faultKind : Int32) (m_faultPlace : Int32) (m_faults : Int32) (m_seen : Int32) (m_depth : Int32) (m_counted : Int32) (m_lead : Int32) (m_round : Int32) (m_tried : Int32) (m_triedMany : Int32) (m_drawn : Int32) (m_ranSteps : Int32) (m_isTold : Bool) (m_marks : Int32) (m_at : Nat → Int32) (m_names : Nat → Int64) (m_sort : Nat → Int32) (m_trayMany : Nat → Int32) (m_trays : Nat → Int64) (m_tape : Nat → Int32) (m_text : Nat → Int32) (m_opened : Nat → Int32) (m_beside : Nat → Int32) (m_then : Nat → Int32) (m_ways : Nat → Int64) (m_further : Nat → Int64) (m_canBe : Nat → Int32) (m_loops : Nat → Int32) (m_ran : Nat → Int32) (m_told0 : Nat → Int32) (Wd : Nat) (R : Nat) (nr : Nat) (nc : Nat) (ci : Int32) (hG : mOK m_at Wd R nr nc) (sz : Nat) : Met l yX7_vote (ws_ yX7_vote cX7_vote 2 (some .int)) (zR 5 0 0) (zPm G sz [.ref (ad 0), .int ci] (mW G ad m_status m_top m_bottom m_taped m_size m_token m_from m_end m_value m_faultKind m_faultPlace m_faults m_seen m_depth m_counted m_lead m_round m_tried m_triedMany m_drawn m_ranSteps m_isTold m_marks m_at m_names m_sort m_trayMany m_trays m_tape m_text m_opened m_beside m_then m_ways m_further m_canBe m_loops m_ran m_told0)) (zQm G (True) (some (.int ((mf_vote m_at m_beside Wd R nr nc ci).1))) (mW G ad ((mf_vote m_at m_beside Wd R nr nc ci).2.1) m_top m_bottom m_taped m_size m_token m_from m_end m_value m_faultKind m_faultPlace m_faults m_seen m_depth m_counted m_lead m_round m_tried m_triedMany m_drawn m_ranSteps m_isTold m_marks m_at m_names m_sort m_trayMany m_trays m_tape m_text m_opened ((mf_vote m_at m_beside Wd R nr nc ci).2.2) m_then m_ways m_further m_canBe m_loops m_ran m_told0) (va_A (mW G ad m_status m_top m_bottom m_taped m_size m_token m_from m_end m_value m_faultKind m_faultPlace m_faults m_seen m_depth m_counted m_lead m_round m_tried m_triedMany m_drawn m_ranSteps m_isTold m_marks m_at m_names m_sort m_trayMany m_trays m_tape m_text m_opened m_beside m_then m_ways m_further m_canBe m_loops m_ran m_told0) sz)) 0 0 (va_A (mW G ad m_status m_top m_bottom m_taped m_size m_token m_from m_end m_value m_faultKind m_faultPlace m_faults m_seen m_depth m_counted m_lead m_round m_tried m_triedMany m_drawn m_ranSteps m_isTold m_marks m_at m_names m_sort m_trayMany m_trays m_tape m_text m_opened m_beside m_then m_ways m_further m_canBe m_loops m_ran m_told0) sz) := by
  refine zr_entM (by decide) (Nat.le_of_ble_eq_true rfl) ?_
  intro p e s m below meth c ⟨hx, hb, hr, hml, hown, hts, hlocks, hnm⟩ ls hl hP hK A hE hA hD hS
  have hown : s.vm.findClass RX7 = some m.cls := hown
  have hl : lv_has ls 2 [(0, .ref (ad 0)), (1, .int ci)] := hl
  obtain ⟨H, hH⟩ : ∃ H, H = s.heap := ⟨_, rfl⟩
  obtain ⟨locs, hlo⟩ : ∃ L : List Loc, L = [] := ⟨_, rfl⟩
  rw [← hH] at hP
  have hS : va_S A s.heap H locs := by rw [hH, hlo]; exact va_S.rf
  have hgo : W p l e (zR 5 0 0) s m ([.ref (ad 0), .int ci] : List Value).toArray below meth c H locs 0 0 (MQ below (zQm G (True) (some (.int ((mf_vote m_at m_beside Wd R nr nc ci).1))) (mW G ad ((mf_vote m_at m_beside Wd R nr nc ci).2.1) m_top m_bottom m_taped m_size m_token m_from m_end m_value m_faultKind m_faultPlace m_faults m_seen m_depth m_counted m_lead m_round m_tried m_triedMany m_drawn m_ranSteps m_isTold m_marks m_at m_names m_sort m_trayMany m_trays m_tape m_text m_opened ((mf_vote m_at m_beside Wd R nr nc ci).2.2) m_then m_ways m_further m_canBe m_loops m_ran m_told0) A) ([.ref (ad 0), .int ci] : List Value).toArray s 0 0 A) (F0 m 0 ls []) := ?_
  · rw [hH, hlo] at hgo; exact hgo
  clear hH hlo
  have hWR := mOK_WR hG
  have hW0 := mOK_W0 hG
  have hW5 := mOK_W5 hG
  have hR0 := mOK_R0 hG
  have hR6 := mOK_R6 hG
  have hn4 := mOK_n4 hG
  have hc6 := mOK_c6 hG
  refine lv_aload_n hx hb dX7_vote_0 rfl (lv_at hl 0 rfl) ?_
  refine lv_iload_n hx hb dX7_vote_1 rfl (lv_at hl 1 rfl) ?_
  refine zr_obV ⟨hx, hb, hml, hown, hts⟩ (mt_mf_isCitizen l G ad m_status m_top m_bottom m_taped m_size m_token m_from m_end m_value m_faultKind m_faultPlace m_faults m_seen m_depth m_counted m_lead m_round m_tried m_triedMany m_drawn m_ranSteps m_isTold m_marks m_at m_names m_sort m_trayMany m_trays m_tape m_text m_opened m_beside m_then m_ways m_further m_canBe m_loops m_ran m_told0 Wd R nr nc ci hG) (cwV 1 hts (lw_V q1831 q1833 qs99 q144 q1834) rfl rfl rfl hd_X7_isCitizen ⟨(Nat.le_of_ble_eq_true rfl), (Nat.le_of_ble_eq_true rfl)⟩) hP hK (zE_o hE hS) 0 7 rfl rfl rfl hl.1 rfl (Nat.le_of_ble_eq_true rfl) dX7_vote_2 ⟨Nat.le_refl _, Nat.le_refl _⟩ ?_
  refine zr_eqB (mf_isCitizen nc ci) (tgt := 20) hx hb dX7_vote_5 (by decide) (fun c_1 => ?_) (fun c_1 => ?_)
  · refine lv_aload_n hx hb dX7_vote_20 rfl (lv_at hl 0 rfl) ?_
    refine lv_iconst (v := 1) hx hb dX7_vote_21 (by decide) ?_
    refine zr_muV (F := ()) (ff := fun _ => True) (rr := fun _ => some (.int (-1))) (w1 := fun _ => (mW G ad 1 m_top m_bottom m_taped m_size m_token m_from m_end m_value m_faultKind m_faultPlace m_faults m_seen m_depth m_counted m_lead m_round m_tried m_triedMany m_drawn m_ranSteps m_isTold m_marks m_at m_names m_sort m_trayMany m_trays m_tape m_text m_opened m_beside m_then m_ways m_further m_canBe m_loops m_ran m_told0)) ⟨hx, hb, hml, hown, hts⟩ (mt_mf_refuse l G ad m_status m_top m_bottom m_taped m_size m_token m_from m_end m_value m_faultKind m_faultPlace m_faults m_seen m_depth m_counted m_lead m_round m_tried m_triedMany m_drawn m_ranSteps m_isTold m_marks m_at m_names m_sort m_trayMany m_trays m_tape m_text m_opened m_beside m_then m_ways m_further m_canBe m_loops m_ran m_told0 1 H.size) (cwV 1 hts (lw_V q1666 q1668 qs66 q144 q1669) rfl rfl rfl hd_X7_refuse ⟨(Nat.le_of_ble_eq_true rfl), (Nat.le_of_ble_eq_true rfl)⟩) hP hD hS hA hK hE 0 7 rfl rfl rfl hl.1 rfl (Nat.le_of_ble_eq_true rfl) dX7_vote_22 ⟨Nat.le_refl _, Nat.le_refl _⟩ (fun _ _ _ H locs hP hD hS _ => ?_)
    refine W.eq (g2 := F0 m 25 ls [.int (-1)]) rfl ?_
    have e_ : mf_vote m_at m_beside Wd R nr nc ci = ((-1), 1, m_beside) := by rw [mf_vote, if_neg c_1]
    exact zr_mi hx hb hr hlocks hP hD hS dX7_vote_25 (by rw [e_])  (by rw [e_]) trivial
  · obtain ⟨hr0, hr1⟩ := isCitizen_t hc6 c_1
    refine lv_aload_n hx hb dX7_vote_8 rfl (lv_at hl 0 rfl) ?_
    refine lv_aload_n hx hb dX7_vote_9 rfl (lv_at hl 0 rfl) ?_
    refine lv_iload_n hx hb dX7_vote_10 rfl (lv_at hl 1 rfl) ?_
    refine zr_val (congrArg Value.int (z_nn hr0)) ?_
    refine W.eq (g2 := F0 m 11 ls [.int (nI ci.toNatClampNeg), .ref (ad 0), .ref (ad 0)]) rfl ?_
    refine zr_muV (F := mf_voteOf m_at m_beside Wd R nr ci.toNatClampNeg) (ff := fun t_3 => True) (rr := fun t_3 => some (.int t_3.1)) (w1 := fun t_3 => (mW G ad m_status m_top m_bottom m_taped m_size m_token m_from m_end m_value m_faultKind m_faultPlace m_faults m_seen m_depth m_counted m_lead m_round m_tried m_triedMany m_drawn m_ranSteps m_isTold m_marks m_at m_names m_sort m_trayMany m_trays m_tape m_text m_opened t_3.2 m_then m_ways m_further m_canBe m_loops m_ran m_told0)) ⟨hx, hb, hml, hown, hts⟩ (mt_mf_voteOf l G ad m_status m_top m_bottom m_taped m_size m_token m_from m_end m_value m_faultKind m_faultPlace m_faults m_seen m_depth m_counted m_lead m_round m_tried m_triedMany m_drawn m_ranSteps m_isTold m_marks m_at m_names m_sort m_trayMany m_trays m_tape m_text m_opened m_beside m_then m_ways m_further m_canBe m_loops m_ran m_told0 Wd R nr nc ci.toNatClampNeg hG (by omega) H.size) (cwV 1 hts (lw_V q2050 q2052 qs120 q144 q2053) rfl rfl rfl hd_X7_voteOf ⟨(Nat.le_of_ble_eq_true rfl), (Nat.le_of_ble_eq_true rfl)⟩) hP hD hS hA hK hE 0 7 rfl rfl rfl hl.1 rfl (Nat.le_of_ble_eq_true rfl) dX7_vote_11 ⟨Nat.le_refl _, Nat.le_refl _⟩ (fun t_3 ht_3 hft_3 H locs hP hD hS _ => ?_)
    refine W.eq (g2 := F0 m 14 ls [.int t_3.1, .ref (ad 0)]) rfl ?_
    refine zr_muV (F := mf_orNone t_3.1) (ff := fun t_4 => True) (rr := fun t_4 => some (.int t_4.1)) (w1 := fun t_4 => (mW G ad t_4.2 m_top m_bottom m_taped m_size m_token m_from m_end m_value m_faultKind m_faultPlace m_faults m_seen m_depth m_counted m_lead m_round m_tried m_triedMany m_drawn m_ranSteps m_isTold m_marks m_at m_names m_sort m_trayMany m_trays m_tape m_text m_opened t_3.2 m_then m_ways m_further m_canBe m_loops m_ran m_told0)) ⟨hx, hb, hml, hown, hts⟩ (mt_mf_orNone l G ad m_status m_top m_bottom m_taped m_size m_token m_from m_end m_value m_faultKind m_faultPlace m_faults m_seen m_depth m_counted m_lead m_round m_tried m_triedMany m_drawn m_ranSteps m_isTold m_marks m_at m_names m_sort m_trayMany m_trays m_tape m_text m_opened t_3.2 m_then m_ways m_further m_canBe m_loops m_ran m_told0 t_3.1 H.size) (cwV 1 hts (lw_V q1783 q1785 qs91 q144 q1786) rfl rfl rfl hd_X7_orNone ⟨(Nat.le_of_ble_eq_true rfl), (Nat.le_of_ble_eq_true rfl)⟩) hP hD hS hA hK hE 0 7 rfl rfl rfl hl.1 rfl (Nat.le_of_ble_eq_true rfl) dX7_vote_14 ⟨Nat.le_refl _, Nat.le_refl _⟩ (fun t_4 ht_4 hft_4 H locs hP hD hS _ => ?_)
    refine W.eq (g2 := F0 m 17 ls [.int t_4.1]) rfl ?_
    refine lv_goto (tgt := 25) hx hb dX7_vote_17 (by decide) ?_
    have e_ : mf_vote m_at m_beside Wd R nr nc ci = (t_4.1, t_4.2, t_3.2) := by rw [mf_vote, if_pos c_1, zlet_eq ht_3, zlet_eq ht_4]
    exact zr_mi hx hb hr hlocks hP hD hS dX7_vote_25 (by rw [e_])  (by rw [e_]) trivial
def mf_votesFor_B4 (m_at : Nat → Int32) (Wd : Nat) (R : Nat) (nr : Nat) (nc : Nat) (ru : Int32) (k_1 : Nat) (s_1 : Int32 × (Nat → Int32)) : Int32 × (Nat → Int32) :=
  zlet (mf_voteOf m_at s_1.2 Wd R nr k_1) (fun t_2 =>
  (if t_2.1 = ru then
    (s_1.1 + 1, t_2.2)
  else
    (s_1.1 + 0, t_2.2)))
def mf_votesFor_L4 (m_at : Nat → Int32) (Wd : Nat) (R : Nat) (nr : Nat) (nc : Nat) (ru : Int32) (s_1 : Int32 × (Nat → Int32)) : Int32 × (Nat → Int32) := zf (mf_votesFor_B4 m_at Wd R nr nc ru) s_1 nc
def mf_votesFor (m_at : Nat → Int32) (m_beside : Nat → Int32) (Wd : Nat) (R : Nat) (nr : Nat) (nc : Nat) (ru : Int32) : Int32 × (Nat → Int32) :=
  zlet (mf_votesFor_L4 m_at Wd R nr nc ru (0, m_beside)) (fun s_1 =>
  (s_1.1, s_1.2))
theorem hd_X7_votesFor : yX7_votesFor.cls = RX7 ∧ yX7_votesFor.cls ≠ "java/lang/invoke/MethodHandle" ∧ yX7_votesFor.cls ≠ "java/lang/invoke/VarHandle" ∧ (parseMethodDescriptor yX7_votesFor.desc).map (fun d => d.parameters.length) = some 1 := by decide +kernel
set_option maxHeartbeats 4000000 in
set_option maxRecDepth 100000 in
theorem mt_mf_votesFor (l : Launch) (G : zG) (ad : Nat → Nat) (m_status : Int32) (m_top : Int64) (m_bottom : Int64) (m_taped : Int32) (m_size : Int32) (m_token : Int32) (m_from : Int32) (m_end : Int32) (m_value : Int32) (m_faultKind : Int32) (m_faultPlace : Int32) (m_faults : Int32) (m_seen : Int32) (m_depth : Int32) (m_counted : Int32) (m_lead : Int32) (m_round : Int32) (m_tried : Int32) (m_triedMany : Int32) (m_drawn : Int32) (m_ranSteps : Int32) (m_isTold : Bool) (m_marks : Int32) (m_at : Nat → Int32) (m_names : Nat → Int64) (m_sort : Nat → Int32) (m_trayMany : Nat → Int32) (m_trays : Nat → Int64) (m_tape : Nat → Int32) (m_text : Nat → Int32) (m_opened : Nat → Int32) (m_beside : Nat → Int32) (m_then : Nat → Int32) (m_ways : Nat → Int64) (m_further : Nat → Int64) (m_canBe : Nat → Int32) (m_loops : Nat → Int32) (m_ran : Nat → Int32) (m_told0 : Nat → Int32) (Wd : Nat) (R : Nat) (nr : Nat) (nc : Nat) (ru : Int32) (hG : mOK m_at Wd R nr nc) (sz : Nat) : Met l yX7_votesFor (ws_ yX7_votesFor cX7_votesFor 4 (some .int)) (zR 5 0 0) (zPm G sz [.ref (ad 0), .int ru] (mW G ad m_status m_top m_bottom m_taped m_size m_token m_from m_end m_value m_faultKind m_faultPlace m_faults m_seen m_depth m_counted m_lead m_round m_tried m_triedMany m_drawn m_ranSteps m_isTold m_marks m_at m_names m_sort m_trayMany m_trays m_tape m_text m_opened m_beside m_then m_ways m_further m_canBe m_loops m_ran m_told0)) (zQm G (True) (some (.int ((mf_votesFor m_at m_beside Wd R nr nc ru).1))) (mW G ad m_status m_top m_bottom m_taped m_size m_token m_from m_end m_value m_faultKind m_faultPlace m_faults m_seen m_depth m_counted m_lead m_round m_tried m_triedMany m_drawn m_ranSteps m_isTold m_marks m_at m_names m_sort m_trayMany m_trays m_tape m_text m_opened ((mf_votesFor m_at m_beside Wd R nr nc ru).2) m_then m_ways m_further m_canBe m_loops m_ran m_told0) (va_A (mW G ad m_status m_top m_bottom m_taped m_size m_token m_from m_end m_value m_faultKind m_faultPlace m_faults m_seen m_depth m_counted m_lead m_round m_tried m_triedMany m_drawn m_ranSteps m_isTold m_marks m_at m_names m_sort m_trayMany m_trays m_tape m_text m_opened m_beside m_then m_ways m_further m_canBe m_loops m_ran m_told0) sz)) 0 0 (va_A (mW G ad m_status m_top m_bottom m_taped m_size m_token m_from m_end m_value m_faultKind m_faultPlace m_faults m_seen m_depth m_counted m_lead m_round m_tried m_triedMany m_drawn m_ranSteps m_isTold m_marks m_at m_names m_sort m_trayMany m_trays m_tape m_text m_opened m_beside m_then m_ways m_further m_canBe m_loops m_ran m_told0) sz) := by
  refine zr_entM (by decide) (Nat.le_of_ble_eq_true rfl) ?_
  intro p e s m below meth c ⟨hx, hb, hr, hml, hown, hts, hlocks, hnm⟩ ls hl hP hK A hE hA hD hS
  have hown : s.vm.findClass RX7 = some m.cls := hown
  have hl : lv_has ls 4 [(0, .ref (ad 0)), (1, .int ru)] := hl
  obtain ⟨H, hH⟩ : ∃ H, H = s.heap := ⟨_, rfl⟩
  obtain ⟨locs, hlo⟩ : ∃ L : List Loc, L = [] := ⟨_, rfl⟩
  rw [← hH] at hP
  have hS : va_S A s.heap H locs := by rw [hH, hlo]; exact va_S.rf
  have hgo : W p l e (zR 5 0 0) s m ([.ref (ad 0), .int ru] : List Value).toArray below meth c H locs 0 0 (MQ below (zQm G (True) (some (.int ((mf_votesFor m_at m_beside Wd R nr nc ru).1))) (mW G ad m_status m_top m_bottom m_taped m_size m_token m_from m_end m_value m_faultKind m_faultPlace m_faults m_seen m_depth m_counted m_lead m_round m_tried m_triedMany m_drawn m_ranSteps m_isTold m_marks m_at m_names m_sort m_trayMany m_trays m_tape m_text m_opened ((mf_votesFor m_at m_beside Wd R nr nc ru).2) m_then m_ways m_further m_canBe m_loops m_ran m_told0) A) ([.ref (ad 0), .int ru] : List Value).toArray s 0 0 A) (F0 m 0 ls []) := ?_
  · rw [hH, hlo] at hgo; exact hgo
  clear hH hlo
  have hWR := mOK_WR hG
  have hW0 := mOK_W0 hG
  have hW5 := mOK_W5 hG
  have hR0 := mOK_R0 hG
  have hR6 := mOK_R6 hG
  have hn4 := mOK_n4 hG
  have hc6 := mOK_c6 hG
  refine lv_iconst (v := 0) hx hb dX7_votesFor_0 (by decide) ?_
  refine lv_istore_n (lv' := [(2, .int 0), (0, .ref (ad 0)), (1, .int ru)]) hx hb dX7_votesFor_1 rfl hl (by decide) rfl (fun ls hl => ?_)
  refine lv_iconst (v := 0) hx hb dX7_votesFor_2 (by decide) ?_
  refine lv_istore_n (lv' := [(3, .int 0), (2, .int 0), (0, .ref (ad 0)), (1, .int ru)]) hx hb dX7_votesFor_3 rfl hl (by decide) rfl (fun ls hl => ?_)
  have hlp_1 : ∀ (n k_1 : Nat) (s_1 : Int32 × (Nat → Int32)), k_1 ≤ nc → nc < k_1 + n → zf (mf_votesFor_B4 m_at Wd R nr nc ru) (0, m_beside) k_1 = s_1 → ∀ (H : Heap) (locs : List Loc), va_P G.1 zcl (mW G ad m_status m_top m_bottom m_taped m_size m_token m_from m_end m_value m_faultKind m_faultPlace m_faults m_seen m_depth m_counted m_lead m_round m_tried m_triedMany m_drawn m_ranSteps m_isTold m_marks m_at m_names m_sort m_trayMany m_trays m_tape m_text m_opened s_1.2 m_then m_ways m_further m_canBe m_loops m_ran m_told0) H → va_D A (mW G ad m_status m_top m_bottom m_taped m_size m_token m_from m_end m_value m_faultKind m_faultPlace m_faults m_seen m_depth m_counted m_lead m_round m_tried m_triedMany m_drawn m_ranSteps m_isTold m_marks m_at m_names m_sort m_trayMany m_trays m_tape m_text m_opened s_1.2 m_then m_ways m_further m_canBe m_loops m_ran m_told0) → va_S A s.heap H locs → ∀ ls : Array Slot, lv_has ls 4 [(3, .int (nI k_1)), (2, .int s_1.1), (0, .ref (ad 0)), (1, .int ru)] → W p l e (zR 5 0 0) s m ([.ref (ad 0), .int ru] : List Value).toArray below meth c H locs 0 0 (MQ below (zQm G (True) (some (.int ((mf_votesFor m_at m_beside Wd R nr nc ru).1))) (mW G ad m_status m_top m_bottom m_taped m_size m_token m_from m_end m_value m_faultKind m_faultPlace m_faults m_seen m_depth m_counted m_lead m_round m_tried m_triedMany m_drawn m_ranSteps m_isTold m_marks m_at m_names m_sort m_trayMany m_trays m_tape m_text m_opened ((mf_votesFor m_at m_beside Wd R nr nc ru).2) m_then m_ways m_further m_canBe m_loops m_ran m_told0) A) ([.ref (ad 0), .int ru] : List Value).toArray s 0 0 A) (F0 m 4 ls []) := by
    intro n
    induction n with
    | zero => intro k_1 s_1 h1 h2; exact absurd h2 (by omega)
    | succ n ih_1 =>
      intro k_1 s_1 hk_1 hn_1 hst_1 H locs hP hD hS ls hl
      refine lv_iload_n hx hb dX7_votesFor_4 rfl (lv_at hl 0 rfl) ?_
      refine lv_aload_n hx hb dX7_votesFor_5 rfl (lv_at hl 2 rfl) ?_
      refine va_get (D := G.1) (ci := 7) (v := .ref (ad 1)) (C := RX7) (T := TX7) (N := 39) hx hb hts in_X7 hown hK.1 hP 0 rfl rfl 0 (Nat.le_of_ble_eq_true rfl) (hts _ q1467) (fun _ h => h) rfl dX7_votesFor_6 ?_
      refine lv_bipush (v := 6) hx hb dX7_votesFor_9 (by decide) ?_
      refine zr_iald 6 (v := nI nc) hx hb hK hP 1 rfl rfl (Nat.le_of_ble_eq_true rfl) rfl (by decide) (mOK_nc hG) dX7_votesFor_11 ?_
      refine zr_ge k_1 nc (by omega) (by omega) (tgt := 38) hx hb dX7_votesFor_12 (by decide) (fun c_1 => ?_) (fun c_1 => ?_)
      · have ek_1 : k_1 = nc := Nat.le_antisymm hk_1 c_1
        have hs_1 : mf_votesFor_L4 m_at Wd R nr nc ru (0, m_beside) = s_1 := by rw [ek_1] at hst_1; exact hst_1
        have hl := lv_sub hl (l' := _) [1, 2, 3] rfl
        refine lv_iload_n hx hb dX7_votesFor_38 rfl (lv_at hl 0 rfl) ?_
        have e_ : mf_votesFor m_at m_beside Wd R nr nc ru = (s_1.1, s_1.2) := by rw [mf_votesFor, zlet_eq hs_1]
        exact zr_mi hx hb hr hlocks hP hD hS dX7_votesFor_39 (by rw [e_])  (by rw [e_]) trivial
      · have hlt_1 : k_1 < nc := Nat.lt_of_not_le c_1
        refine lv_iload_n hx hb dX7_votesFor_15 rfl (lv_at hl 1 rfl) ?_
        refine lv_aload_n hx hb dX7_votesFor_16 rfl (lv_at hl 2 rfl) ?_
        refine lv_iload_n hx hb dX7_votesFor_17 rfl (lv_at hl 0 rfl) ?_
        refine zr_muV (F := mf_voteOf m_at s_1.2 Wd R nr k_1) (ff := fun t_2 => True) (rr := fun t_2 => some (.int t_2.1)) (w1 := fun t_2 => (mW G ad m_status m_top m_bottom m_taped m_size m_token m_from m_end m_value m_faultKind m_faultPlace m_faults m_seen m_depth m_counted m_lead m_round m_tried m_triedMany m_drawn m_ranSteps m_isTold m_marks m_at m_names m_sort m_trayMany m_trays m_tape m_text m_opened t_2.2 m_then m_ways m_further m_canBe m_loops m_ran m_told0)) ⟨hx, hb, hml, hown, hts⟩ (mt_mf_voteOf l G ad m_status m_top m_bottom m_taped m_size m_token m_from m_end m_value m_faultKind m_faultPlace m_faults m_seen m_depth m_counted m_lead m_round m_tried m_triedMany m_drawn m_ranSteps m_isTold m_marks m_at m_names m_sort m_trayMany m_trays m_tape m_text m_opened s_1.2 m_then m_ways m_further m_canBe m_loops m_ran m_told0 Wd R nr nc k_1 hG (by omega) H.size) (cwV 1 hts (lw_V q2050 q2052 qs120 q144 q2053) rfl rfl rfl hd_X7_voteOf ⟨(Nat.le_of_ble_eq_true rfl), (Nat.le_of_ble_eq_true rfl)⟩) hP hD hS hA hK hE 0 7 rfl rfl rfl hl.1 rfl (Nat.le_of_ble_eq_true rfl) dX7_votesFor_18 ⟨Nat.le_refl _, Nat.le_refl _⟩ (fun t_2 ht_2 hft_2 H locs hP hD hS _ => ?_)
        refine W.eq (g2 := F0 m 21 ls [.int t_2.1, .int s_1.1]) rfl ?_
        refine lv_iload_n hx hb dX7_votesFor_21 rfl (lv_at hl 3 rfl) ?_
        refine lv_icmp_ne (tgt := 29) hx hb dX7_votesFor_22 (by decide) (fun c_3 => ?_) (fun c_3 => ?_)
        · refine lv_iconst (v := 0) hx hb dX7_votesFor_29 (by decide) ?_
          refine lv_iadd hx hb dX7_votesFor_30 ?_
          refine lv_istore_n (lv' := [(2, .int (s_1.1 + 0)), (3, .int (nI k_1)), (0, .ref (ad 0)), (1, .int ru)]) hx hb dX7_votesFor_31 rfl hl (by decide) rfl (fun ls hl => ?_)
          refine lv_iinc (v := nI (k_1 + 1)) (lv' := [(3, .int (nI (k_1 + 1))), (2, .int (s_1.1 + 0)), (0, .ref (ad 0)), (1, .int ru)]) hx hb dX7_votesFor_32 hl (k := 1) rfl (nI_add k_1 1) (by decide) rfl (fun ls hl => ?_)
          refine lv_goto (tgt := 4) hx hb dX7_votesFor_35 (by decide) ?_
          exact ih_1 (k_1 + 1) (s_1.1 + 0, t_2.2) hlt_1 (by omega) (zf_s hst_1 (by rw [mf_votesFor_B4, zlet_eq ht_2, if_neg c_3])) H locs hP hD hS ls (lv_sub hl [0, 1, 2, 3] rfl)
        · refine lv_iconst (v := 1) hx hb dX7_votesFor_25 (by decide) ?_
          refine lv_goto (tgt := 30) hx hb dX7_votesFor_26 (by decide) ?_
          refine lv_iadd hx hb dX7_votesFor_30 ?_
          refine lv_istore_n (lv' := [(2, .int (s_1.1 + 1)), (3, .int (nI k_1)), (0, .ref (ad 0)), (1, .int ru)]) hx hb dX7_votesFor_31 rfl hl (by decide) rfl (fun ls hl => ?_)
          refine lv_iinc (v := nI (k_1 + 1)) (lv' := [(3, .int (nI (k_1 + 1))), (2, .int (s_1.1 + 1)), (0, .ref (ad 0)), (1, .int ru)]) hx hb dX7_votesFor_32 hl (k := 1) rfl (nI_add k_1 1) (by decide) rfl (fun ls hl => ?_)
          refine lv_goto (tgt := 4) hx hb dX7_votesFor_35 (by decide) ?_
          exact ih_1 (k_1 + 1) (s_1.1 + 1, t_2.2) hlt_1 (by omega) (zf_s hst_1 (by rw [mf_votesFor_B4, zlet_eq ht_2, if_pos c_3])) H locs hP hD hS ls (lv_sub hl [0, 1, 2, 3] rfl)
  exact hlp_1 (nc + 1) 0 (0, m_beside) (Nat.zero_le _) (by omega) rfl H locs hP hD hS ls (lv_sub hl [0, 1, 2, 3] rfl)
def mf_votes (m_at : Nat → Int32) (m_beside : Nat → Int32) (Wd : Nat) (R : Nat) (nr : Nat) (nc : Nat) (ru : Int32) : Int32 × Int32 × (Nat → Int32) :=
  (if (mf_isRule nr ru) = true then
    zlet (mf_votesFor m_at m_beside Wd R nr nc ru) (fun t_3 =>
    (t_3.1, 0, t_3.2))
  else
    ((-1), 1, m_beside))
theorem hd_X7_votes : yX7_votes.cls = RX7 ∧ yX7_votes.cls ≠ "java/lang/invoke/MethodHandle" ∧ yX7_votes.cls ≠ "java/lang/invoke/VarHandle" ∧ (parseMethodDescriptor yX7_votes.desc).map (fun d => d.parameters.length) = some 1 := by decide +kernel
set_option maxHeartbeats 4000000 in
set_option maxRecDepth 100000 in
theorem mt_mf_votes (l : Launch) (G : zG) (ad : Nat → Nat) (m_status : Int32) (m_top : Int64) (m_bottom : Int64) (m_taped : Int32) (m_size : Int32) (m_token : Int32) (m_from : Int32) (m_end : Int32) (m_value : Int32) (m_faultKind : Int32) (m_faultPlace : Int32) (m_faults : Int32) (m_seen : Int32) (m_depth : Int32) (m_counted : Int32) (m_lead : Int32) (m_round : Int32) (m_tried : Int32) (m_triedMany : Int32) (m_drawn : Int32) (m_ranSteps : Int32) (m_isTold : Bool) (m_marks : Int32) (m_at : Nat → Int32) (m_names : Nat → Int64) (m_sort : Nat → Int32) (m_trayMany : Nat → Int32) (m_trays : Nat → Int64) (m_tape : Nat → Int32) (m_text : Nat → Int32) (m_opened : Nat → Int32) (m_beside : Nat → Int32) (m_then : Nat → Int32) (m_ways : Nat → Int64) (m_further : Nat → Int64) (m_canBe : Nat → Int32) (m_loops : Nat → Int32) (m_ran : Nat → Int32) (m_told0 : Nat → Int32) (Wd : Nat) (R : Nat) (nr : Nat) (nc : Nat) (ru : Int32) (hG : mOK m_at Wd R nr nc) (sz : Nat) : Met l yX7_votes (ws_ yX7_votes cX7_votes 2 (some .int)) (zR 6 0 0) (zPm G sz [.ref (ad 0), .int ru] (mW G ad m_status m_top m_bottom m_taped m_size m_token m_from m_end m_value m_faultKind m_faultPlace m_faults m_seen m_depth m_counted m_lead m_round m_tried m_triedMany m_drawn m_ranSteps m_isTold m_marks m_at m_names m_sort m_trayMany m_trays m_tape m_text m_opened m_beside m_then m_ways m_further m_canBe m_loops m_ran m_told0)) (zQm G (True) (some (.int ((mf_votes m_at m_beside Wd R nr nc ru).1))) (mW G ad ((mf_votes m_at m_beside Wd R nr nc ru).2.1) m_top m_bottom m_taped m_size m_token m_from m_end m_value m_faultKind m_faultPlace m_faults m_seen m_depth m_counted m_lead m_round m_tried m_triedMany m_drawn m_ranSteps m_isTold m_marks m_at m_names m_sort m_trayMany m_trays m_tape m_text m_opened ((mf_votes m_at m_beside Wd R nr nc ru).2.2) m_then m_ways m_further m_canBe m_loops m_ran m_told0) (va_A (mW G ad m_status m_top m_bottom m_taped m_size m_token m_from m_end m_value m_faultKind m_faultPlace m_faults m_seen m_depth m_counted m_lead m_round m_tried m_triedMany m_drawn m_ranSteps m_isTold m_marks m_at m_names m_sort m_trayMany m_trays m_tape m_text m_opened m_beside m_then m_ways m_further m_canBe m_loops m_ran m_told0) sz)) 0 0 (va_A (mW G ad m_status m_top m_bottom m_taped m_size m_token m_from m_end m_value m_faultKind m_faultPlace m_faults m_seen m_depth m_counted m_lead m_round m_tried m_triedMany m_drawn m_ranSteps m_isTold m_marks m_at m_names m_sort m_trayMany m_trays m_tape m_text m_opened m_beside m_then m_ways m_further m_canBe m_loops m_ran m_told0) sz) := by
  refine zr_entM (by decide) (Nat.le_of_ble_eq_true rfl) ?_
  intro p e s m below meth c ⟨hx, hb, hr, hml, hown, hts, hlocks, hnm⟩ ls hl hP hK A hE hA hD hS
  have hown : s.vm.findClass RX7 = some m.cls := hown
  have hl : lv_has ls 2 [(0, .ref (ad 0)), (1, .int ru)] := hl
  obtain ⟨H, hH⟩ : ∃ H, H = s.heap := ⟨_, rfl⟩
  obtain ⟨locs, hlo⟩ : ∃ L : List Loc, L = [] := ⟨_, rfl⟩
  rw [← hH] at hP
  have hS : va_S A s.heap H locs := by rw [hH, hlo]; exact va_S.rf
  have hgo : W p l e (zR 6 0 0) s m ([.ref (ad 0), .int ru] : List Value).toArray below meth c H locs 0 0 (MQ below (zQm G (True) (some (.int ((mf_votes m_at m_beside Wd R nr nc ru).1))) (mW G ad ((mf_votes m_at m_beside Wd R nr nc ru).2.1) m_top m_bottom m_taped m_size m_token m_from m_end m_value m_faultKind m_faultPlace m_faults m_seen m_depth m_counted m_lead m_round m_tried m_triedMany m_drawn m_ranSteps m_isTold m_marks m_at m_names m_sort m_trayMany m_trays m_tape m_text m_opened ((mf_votes m_at m_beside Wd R nr nc ru).2.2) m_then m_ways m_further m_canBe m_loops m_ran m_told0) A) ([.ref (ad 0), .int ru] : List Value).toArray s 0 0 A) (F0 m 0 ls []) := ?_
  · rw [hH, hlo] at hgo; exact hgo
  clear hH hlo
  have hWR := mOK_WR hG
  have hW0 := mOK_W0 hG
  have hW5 := mOK_W5 hG
  have hR0 := mOK_R0 hG
  have hR6 := mOK_R6 hG
  have hn4 := mOK_n4 hG
  have hc6 := mOK_c6 hG
  refine lv_aload_n hx hb dX7_votes_0 rfl (lv_at hl 0 rfl) ?_
  refine lv_iload_n hx hb dX7_votes_1 rfl (lv_at hl 1 rfl) ?_
  refine zr_obV ⟨hx, hb, hml, hown, hts⟩ (mt_mf_isRule l G ad m_status m_top m_bottom m_taped m_size m_token m_from m_end m_value m_faultKind m_faultPlace m_faults m_seen m_depth m_counted m_lead m_round m_tried m_triedMany m_drawn m_ranSteps m_isTold m_marks m_at m_names m_sort m_trayMany m_trays m_tape m_text m_opened m_beside m_then m_ways m_further m_canBe m_loops m_ran m_told0 Wd R nr nc ru hG) (cwV 1 hts (lw_V q1823 q1825 qs98 q144 q1826) rfl rfl rfl hd_X7_isRule ⟨(Nat.le_of_ble_eq_true rfl), (Nat.le_of_ble_eq_true rfl)⟩) hP hK (zE_o hE hS) 0 7 rfl rfl rfl hl.1 rfl (Nat.le_of_ble_eq_true rfl) dX7_votes_2 ⟨Nat.le_refl _, Nat.le_refl _⟩ ?_
  refine zr_eqB (mf_isRule nr ru) (tgt := 20) hx hb dX7_votes_5 (by decide) (fun c_1 => ?_) (fun c_1 => ?_)
  · refine lv_aload_n hx hb dX7_votes_20 rfl (lv_at hl 0 rfl) ?_
    refine lv_iconst (v := 1) hx hb dX7_votes_21 (by decide) ?_
    refine zr_muV (F := ()) (ff := fun _ => True) (rr := fun _ => some (.int (-1))) (w1 := fun _ => (mW G ad 1 m_top m_bottom m_taped m_size m_token m_from m_end m_value m_faultKind m_faultPlace m_faults m_seen m_depth m_counted m_lead m_round m_tried m_triedMany m_drawn m_ranSteps m_isTold m_marks m_at m_names m_sort m_trayMany m_trays m_tape m_text m_opened m_beside m_then m_ways m_further m_canBe m_loops m_ran m_told0)) ⟨hx, hb, hml, hown, hts⟩ (mt_mf_refuse l G ad m_status m_top m_bottom m_taped m_size m_token m_from m_end m_value m_faultKind m_faultPlace m_faults m_seen m_depth m_counted m_lead m_round m_tried m_triedMany m_drawn m_ranSteps m_isTold m_marks m_at m_names m_sort m_trayMany m_trays m_tape m_text m_opened m_beside m_then m_ways m_further m_canBe m_loops m_ran m_told0 1 H.size) (cwV 1 hts (lw_V q1666 q1668 qs66 q144 q1669) rfl rfl rfl hd_X7_refuse ⟨(Nat.le_of_ble_eq_true rfl), (Nat.le_of_ble_eq_true rfl)⟩) hP hD hS hA hK hE 0 7 rfl rfl rfl hl.1 rfl (Nat.le_of_ble_eq_true rfl) dX7_votes_22 ⟨Nat.le_refl _, Nat.le_refl _⟩ (fun _ _ _ H locs hP hD hS _ => ?_)
    refine W.eq (g2 := F0 m 25 ls [.int (-1)]) rfl ?_
    have e_ : mf_votes m_at m_beside Wd R nr nc ru = ((-1), 1, m_beside) := by rw [mf_votes, if_neg c_1]
    exact zr_mi hx hb hr hlocks hP hD hS dX7_votes_25 (by rw [e_])  (by rw [e_]) trivial
  · refine lv_aload_n hx hb dX7_votes_8 rfl (lv_at hl 0 rfl) ?_
    refine lv_aload_n hx hb dX7_votes_9 rfl (lv_at hl 0 rfl) ?_
    refine lv_iload_n hx hb dX7_votes_10 rfl (lv_at hl 1 rfl) ?_
    refine zr_muV (F := mf_votesFor m_at m_beside Wd R nr nc ru) (ff := fun t_3 => True) (rr := fun t_3 => some (.int t_3.1)) (w1 := fun t_3 => (mW G ad m_status m_top m_bottom m_taped m_size m_token m_from m_end m_value m_faultKind m_faultPlace m_faults m_seen m_depth m_counted m_lead m_round m_tried m_triedMany m_drawn m_ranSteps m_isTold m_marks m_at m_names m_sort m_trayMany m_trays m_tape m_text m_opened t_3.2 m_then m_ways m_further m_canBe m_loops m_ran m_told0)) ⟨hx, hb, hml, hown, hts⟩ (mt_mf_votesFor l G ad m_status m_top m_bottom m_taped m_size m_token m_from m_end m_value m_faultKind m_faultPlace m_faults m_seen m_depth m_counted m_lead m_round m_tried m_triedMany m_drawn m_ranSteps m_isTold m_marks m_at m_names m_sort m_trayMany m_trays m_tape m_text m_opened m_beside m_then m_ways m_further m_canBe m_loops m_ran m_told0 Wd R nr nc ru hG H.size) (cwV 1 hts (lw_V q2062 q2064 qs122 q144 q2065) rfl rfl rfl hd_X7_votesFor ⟨(Nat.le_of_ble_eq_true rfl), (Nat.le_of_ble_eq_true rfl)⟩) hP hD hS hA hK hE 0 7 rfl rfl rfl hl.1 rfl (Nat.le_of_ble_eq_true rfl) dX7_votes_11 ⟨Nat.le_refl _, Nat.le_refl _⟩ (fun t_3 ht_3 hft_3 H locs hP hD hS _ => ?_)
    refine W.eq (g2 := F0 m 14 ls [.int t_3.1, .ref (ad 0)]) rfl ?_
    refine zr_muV (F := ()) (ff := fun _ => True) (rr := fun _ => some (.int t_3.1)) (w1 := fun _ => (mW G ad 0 m_top m_bottom m_taped m_size m_token m_from m_end m_value m_faultKind m_faultPlace m_faults m_seen m_depth m_counted m_lead m_round m_tried m_triedMany m_drawn m_ranSteps m_isTold m_marks m_at m_names m_sort m_trayMany m_trays m_tape m_text m_opened t_3.2 m_then m_ways m_further m_canBe m_loops m_ran m_told0)) ⟨hx, hb, hml, hown, hts⟩ (mt_mf_gives l G ad m_status m_top m_bottom m_taped m_size m_token m_from m_end m_value m_faultKind m_faultPlace m_faults m_seen m_depth m_counted m_lead m_round m_tried m_triedMany m_drawn m_ranSteps m_isTold m_marks m_at m_names m_sort m_trayMany m_trays m_tape m_text m_opened t_3.2 m_then m_ways m_further m_canBe m_loops m_ran m_told0 t_3.1 H.size) (cwV 1 hts (lw_V q1751 q1753 qs85 q144 q1754) rfl rfl rfl hd_X7_gives ⟨(Nat.le_of_ble_eq_true rfl), (Nat.le_of_ble_eq_true rfl)⟩) hP hD hS hA hK hE 0 7 rfl rfl rfl hl.1 rfl (Nat.le_of_ble_eq_true rfl) dX7_votes_14 ⟨Nat.le_refl _, Nat.le_refl _⟩ (fun _ _ _ H locs hP hD hS _ => ?_)
    refine W.eq (g2 := F0 m 17 ls [.int t_3.1]) rfl ?_
    refine lv_goto (tgt := 25) hx hb dX7_votes_17 (by decide) ?_
    have e_ : mf_votes m_at m_beside Wd R nr nc ru = (t_3.1, 0, t_3.2) := by rw [mf_votes, if_pos c_1, zlet_eq ht_3]
    exact zr_mi hx hb hr hlocks hP hD hS dX7_votes_25 (by rw [e_])  (by rw [e_]) trivial
def mf_elects_B25 (m_at : Nat → Int32) (Wd : Nat) (R : Nat) (nr : Nat) (nc : Nat) (s_3 : Nat × Nat × (Nat → Int32)) : (Nat × Nat × (Nat → Int32)) ⊕ (Nat × Nat × (Nat → Int32)) :=
  (if nr ≤ s_3.1 then
    .inr (s_3.1, s_3.2.1, s_3.2.2)
  else
    zlet (mf_votesFor m_at s_3.2.2 Wd R nr nc (nI s_3.1)) (fun t_5 =>
    zlet (mf_votesFor m_at t_5.2 Wd R nr nc (nI s_3.2.1)) (fun t_6 =>
    (if t_5.1 ≤ t_6.1 then
      .inl (s_3.1 + 1, s_3.2.1, t_6.2)
    else
      .inl (s_3.1 + 1, s_3.1, t_6.2)))))
def mf_elects_L25 (m_at : Nat → Int32) (Wd : Nat) (R : Nat) (nr : Nat) (nc : Nat) (s_3 : Nat × Nat × (Nat → Int32)) : Nat × Nat × (Nat → Int32) := zw (mf_elects_B25 m_at Wd R nr nc) (s_3) ((nr - s_3.1) + 1) s_3
def mf_elects (m_at : Nat → Int32) (m_beside : Nat → Int32) (Wd : Nat) (R : Nat) (nr : Nat) (nc : Nat) : Bool × (Nat → Int32) × (Nat → Int32) :=
  (if nr = 0 then
    (false, m_at, m_beside)
  else
    (if nc = 0 then
      (false, m_at, m_beside)
    else
      zlet (mf_elects_L25 m_at Wd R nr nc (1, 0, m_beside)) (fun t_3 =>
      (true, upd m_at 10 (nI t_3.2.1), t_3.2.2))))
theorem hd_X7_elects : yX7_elects.cls = RX7 ∧ yX7_elects.cls ≠ "java/lang/invoke/MethodHandle" ∧ yX7_elects.cls ≠ "java/lang/invoke/VarHandle" ∧ (parseMethodDescriptor yX7_elects.desc).map (fun d => d.parameters.length) = some 0 := by decide +kernel
set_option maxHeartbeats 4000000 in
set_option maxRecDepth 100000 in
theorem mt_mf_elects (l : Launch) (G : zG) (ad : Nat → Nat) (m_status : Int32) (m_top : Int64) (m_bottom : Int64) (m_taped : Int32) (m_size : Int32) (m_token : Int32) (m_from : Int32) (m_end : Int32) (m_value : Int32) (m_faultKind : Int32) (m_faultPlace : Int32) (m_faults : Int32) (m_seen : Int32) (m_depth : Int32) (m_counted : Int32) (m_lead : Int32) (m_round : Int32) (m_tried : Int32) (m_triedMany : Int32) (m_drawn : Int32) (m_ranSteps : Int32) (m_isTold : Bool) (m_marks : Int32) (m_at : Nat → Int32) (m_names : Nat → Int64) (m_sort : Nat → Int32) (m_trayMany : Nat → Int32) (m_trays : Nat → Int64) (m_tape : Nat → Int32) (m_text : Nat → Int32) (m_opened : Nat → Int32) (m_beside : Nat → Int32) (m_then : Nat → Int32) (m_ways : Nat → Int64) (m_further : Nat → Int64) (m_canBe : Nat → Int32) (m_loops : Nat → Int32) (m_ran : Nat → Int32) (m_told0 : Nat → Int32) (Wd : Nat) (R : Nat) (nr : Nat) (nc : Nat) (hG : mOK m_at Wd R nr nc) (sz : Nat) : Met l yX7_elects (ws_ yX7_elects cX7_elects 3 (some .boolean)) (zR 6 0 0) (zPm G sz [.ref (ad 0)] (mW G ad m_status m_top m_bottom m_taped m_size m_token m_from m_end m_value m_faultKind m_faultPlace m_faults m_seen m_depth m_counted m_lead m_round m_tried m_triedMany m_drawn m_ranSteps m_isTold m_marks m_at m_names m_sort m_trayMany m_trays m_tape m_text m_opened m_beside m_then m_ways m_further m_canBe m_loops m_ran m_told0)) (zQm G (mOK ((mf_elects m_at m_beside Wd R nr nc).2.1) Wd R nr nc) (some (.int (zb ((mf_elects m_at m_beside Wd R nr nc).1)))) (mW G ad m_status m_top m_bottom m_taped m_size m_token m_from m_end m_value m_faultKind m_faultPlace m_faults m_seen m_depth m_counted m_lead m_round m_tried m_triedMany m_drawn m_ranSteps m_isTold m_marks ((mf_elects m_at m_beside Wd R nr nc).2.1) m_names m_sort m_trayMany m_trays m_tape m_text m_opened ((mf_elects m_at m_beside Wd R nr nc).2.2) m_then m_ways m_further m_canBe m_loops m_ran m_told0) (va_A (mW G ad m_status m_top m_bottom m_taped m_size m_token m_from m_end m_value m_faultKind m_faultPlace m_faults m_seen m_depth m_counted m_lead m_round m_tried m_triedMany m_drawn m_ranSteps m_isTold m_marks m_at m_names m_sort m_trayMany m_trays m_tape m_text m_opened m_beside m_then m_ways m_further m_canBe m_loops m_ran m_told0) sz)) 0 0 (va_A (mW G ad m_status m_top m_bottom m_taped m_size m_token m_from m_end m_value m_faultKind m_faultPlace m_faults m_seen m_depth m_counted m_lead m_round m_tried m_triedMany m_drawn m_ranSteps m_isTold m_marks m_at m_names m_sort m_trayMany m_trays m_tape m_text m_opened m_beside m_then m_ways m_further m_canBe m_loops m_ran m_told0) sz) := by
  refine zr_entM (by decide) (Nat.le_of_ble_eq_true rfl) ?_
  intro p e s m below meth c ⟨hx, hb, hr, hml, hown, hts, hlocks, hnm⟩ ls hl hP hK A hE hA hD hS
  have hown : s.vm.findClass RX7 = some m.cls := hown
  have hl : lv_has ls 3 [(0, .ref (ad 0))] := hl
  obtain ⟨H, hH⟩ : ∃ H, H = s.heap := ⟨_, rfl⟩
  obtain ⟨locs, hlo⟩ : ∃ L : List Loc, L = [] := ⟨_, rfl⟩
  rw [← hH] at hP
  have hS : va_S A s.heap H locs := by rw [hH, hlo]; exact va_S.rf
  have hgo : W p l e (zR 6 0 0) s m ([.ref (ad 0)] : List Value).toArray below meth c H locs 0 0 (MQ below (zQm G (mOK ((mf_elects m_at m_beside Wd R nr nc).2.1) Wd R nr nc) (some (.int (zb ((mf_elects m_at m_beside Wd R nr nc).1)))) (mW G ad m_status m_top m_bottom m_taped m_size m_token m_from m_end m_value m_faultKind m_faultPlace m_faults m_seen m_depth m_counted m_lead m_round m_tried m_triedMany m_drawn m_ranSteps m_isTold m_marks ((mf_elects m_at m_beside Wd R nr nc).2.1) m_names m_sort m_trayMany m_trays m_tape m_text m_opened ((mf_elects m_at m_beside Wd R nr nc).2.2) m_then m_ways m_further m_canBe m_loops m_ran m_told0) A) ([.ref (ad 0)] : List Value).toArray s 0 0 A) (F0 m 0 ls []) := ?_
  · rw [hH, hlo] at hgo; exact hgo
  clear hH hlo
  have hWR := mOK_WR hG
  have hW0 := mOK_W0 hG
  have hW5 := mOK_W5 hG
  have hR0 := mOK_R0 hG
  have hR6 := mOK_R6 hG
  have hn4 := mOK_n4 hG
  have hc6 := mOK_c6 hG
  refine lv_aload_n hx hb dX7_elects_0 rfl (lv_at hl 0 rfl) ?_
  refine va_get (D := G.1) (ci := 7) (v := .ref (ad 1)) (C := RX7) (T := TX7) (N := 39) hx hb hts in_X7 hown hK.1 hP 0 rfl rfl 0 (Nat.le_of_ble_eq_true rfl) (hts _ q1467) (fun _ h => h) rfl dX7_elects_1 ?_
  refine lv_iconst (v := 5) hx hb dX7_elects_4 (by decide) ?_
  refine zr_iald 5 (v := nI nr) hx hb hK hP 1 rfl rfl (Nat.le_of_ble_eq_true rfl) rfl (by decide) (mOK_nr hG) dX7_elects_5 ?_
  refine zr_ifeqN nr (by omega) (tgt := 19) hx hb dX7_elects_6 (by decide) (fun c_1 => ?_) (fun c_1 => ?_)
  · refine lv_iconst (v := 0) hx hb dX7_elects_19 (by decide) ?_
    have e_ : mf_elects m_at m_beside Wd R nr nc = (false, m_at, m_beside) := by rw [mf_elects, if_pos c_1]
    exact zr_mz hx hb hr hlocks hP hD hS dX7_elects_20 rfl (by rw [e_]; rfl) (by rw [e_]) (by rw [e_]; exact hG)
  · refine lv_aload_n hx hb dX7_elects_9 rfl (lv_at hl 0 rfl) ?_
    refine va_get (D := G.1) (ci := 7) (v := .ref (ad 1)) (C := RX7) (T := TX7) (N := 39) hx hb hts in_X7 hown hK.1 hP 0 rfl rfl 0 (Nat.le_of_ble_eq_true rfl) (hts _ q1467) (fun _ h => h) rfl dX7_elects_10 ?_
    refine lv_bipush (v := 6) hx hb dX7_elects_13 (by decide) ?_
    refine zr_iald 6 (v := nI nc) hx hb hK hP 1 rfl rfl (Nat.le_of_ble_eq_true rfl) rfl (by decide) (mOK_nc hG) dX7_elects_15 ?_
    refine zr_ifneN nc (by omega) (tgt := 21) hx hb dX7_elects_16 (by decide) (fun c_2 => ?_) (fun c_2 => ?_)
    · refine lv_iconst (v := 0) hx hb dX7_elects_21 (by decide) ?_
      refine lv_istore_n (lv' := [(1, .int 0), (0, .ref (ad 0))]) hx hb dX7_elects_22 rfl hl (by decide) rfl (fun ls hl => ?_)
      refine lv_iconst (v := 1) hx hb dX7_elects_23 (by decide) ?_
      refine lv_istore_n (lv' := [(2, .int 1), (1, .int 0), (0, .ref (ad 0))]) hx hb dX7_elects_24 rfl hl (by decide) rfl (fun ls hl => ?_)
      have hx_3 : ∀ t_3 : Nat × Nat × (Nat → Int32), mf_elects_L25 m_at Wd R nr nc (1, 0, m_beside) = t_3 → t_3.2.1 < nr → ∀ (H : Heap) (locs : List Loc), va_P G.1 zcl (mW G ad m_status m_top m_bottom m_taped m_size m_token m_from m_end m_value m_faultKind m_faultPlace m_faults m_seen m_depth m_counted m_lead m_round m_tried m_triedMany m_drawn m_ranSteps m_isTold m_marks m_at m_names m_sort m_trayMany m_trays m_tape m_text m_opened t_3.2.2 m_then m_ways m_further m_canBe m_loops m_ran m_told0) H → va_D A (mW G ad m_status m_top m_bottom m_taped m_size m_token m_from m_end m_value m_faultKind m_faultPlace m_faults m_seen m_depth m_counted m_lead m_round m_tried m_triedMany m_drawn m_ranSteps m_isTold m_marks m_at m_names m_sort m_trayMany m_trays m_tape m_text m_opened t_3.2.2 m_then m_ways m_further m_canBe m_loops m_ran m_told0) → va_S A s.heap H locs → ∀ ls : Array Slot, lv_has ls 3 [(1, .int (nI t_3.2.1)), (0, .ref (ad 0))] → W p l e (zR 6 0 0) s m ([.ref (ad 0)] : List Value).toArray below meth c H locs 0 0 (MQ below (zQm G (mOK ((mf_elects m_at m_beside Wd R nr nc).2.1) Wd R nr nc) (some (.int (zb ((mf_elects m_at m_beside Wd R nr nc).1)))) (mW G ad m_status m_top m_bottom m_taped m_size m_token m_from m_end m_value m_faultKind m_faultPlace m_faults m_seen m_depth m_counted m_lead m_round m_tried m_triedMany m_drawn m_ranSteps m_isTold m_marks ((mf_elects m_at m_beside Wd R nr nc).2.1) m_names m_sort m_trayMany m_trays m_tape m_text m_opened ((mf_elects m_at m_beside Wd R nr nc).2.2) m_then m_ways m_further m_canBe m_loops m_ran m_told0) A) ([.ref (ad 0)] : List Value).toArray s 0 0 A) (F0 m 56 ls []) := by
        intro t_3 ht_3 hx1 H locs hP hD hS ls hl
        refine lv_aload_n hx hb dX7_elects_56 rfl (lv_at hl 1 rfl) ?_
        refine va_get (D := G.1) (ci := 7) (v := .ref (ad 1)) (C := RX7) (T := TX7) (N := 39) hx hb hts in_X7 hown hK.1 hP 0 rfl rfl 0 (Nat.le_of_ble_eq_true rfl) (hts _ q1467) (fun _ h => h) rfl dX7_elects_57 ?_
        refine lv_bipush (v := 10) hx hb dX7_elects_60 (by decide) ?_
        refine lv_iload_n hx hb dX7_elects_62 rfl (lv_at hl 0 rfl) ?_
        refine zr_iast 10 (ws' := (mW G ad m_status m_top m_bottom m_taped m_size m_token m_from m_end m_value m_faultKind m_faultPlace m_faults m_seen m_depth m_counted m_lead m_round m_tried m_triedMany m_drawn m_ranSteps m_isTold m_marks (upd m_at 10 (nI t_3.2.1)) m_names m_sort m_trayMany m_trays m_tape m_text m_opened t_3.2.2 m_then m_ways m_further m_canBe m_loops m_ran m_told0)) hx hb hK hP hD hS 1 rfl rfl (Nat.le_of_ble_eq_true rfl) rfl (by decide) rfl dX7_elects_63 (fun H locs hP hD hS => ?_)
        refine lv_iconst (v := 1) hx hb dX7_elects_64 (by decide) ?_
        have e_ : mf_elects m_at m_beside Wd R nr nc = (true, upd m_at 10 (nI t_3.2.1), t_3.2.2) := by rw [mf_elects, if_neg c_1, if_neg c_2, zlet_eq ht_3]
        exact zr_mz hx hb hr hlocks hP hD hS dX7_elects_65 rfl (by rw [e_]; rfl) (by rw [e_]) (by rw [e_]; exact (mOK_ub hG (Or.inr ⟨nI_pos (by omega), by rw [nI_clamp (by omega)]; omega⟩)))
      have hlp_3 : ∀ (n : Nat) (s_3 : Nat × Nat × (Nat → Int32)), nr - s_3.1 < n → zw (mf_elects_B25 m_at Wd R nr nc) (1, 0, m_beside) n s_3 = mf_elects_L25 m_at Wd R nr nc (1, 0, m_beside) → s_3.1 ≤ nr → s_3.2.1 < nr → ∀ (H : Heap) (locs : List Loc), va_P G.1 zcl (mW G ad m_status m_top m_bottom m_taped m_size m_token m_from m_end m_value m_faultKind m_faultPlace m_faults m_seen m_depth m_counted m_lead m_round m_tried m_triedMany m_drawn m_ranSteps m_isTold m_marks m_at m_names m_sort m_trayMany m_trays m_tape m_text m_opened s_3.2.2 m_then m_ways m_further m_canBe m_loops m_ran m_told0) H → va_D A (mW G ad m_status m_top m_bottom m_taped m_size m_token m_from m_end m_value m_faultKind m_faultPlace m_faults m_seen m_depth m_counted m_lead m_round m_tried m_triedMany m_drawn m_ranSteps m_isTold m_marks m_at m_names m_sort m_trayMany m_trays m_tape m_text m_opened s_3.2.2 m_then m_ways m_further m_canBe m_loops m_ran m_told0) → va_S A s.heap H locs → ∀ ls : Array Slot, lv_has ls 3 [(2, .int (nI s_3.1)), (1, .int (nI s_3.2.1)), (0, .ref (ad 0))] → W p l e (zR 6 0 0) s m ([.ref (ad 0)] : List Value).toArray below meth c H locs 0 0 (MQ below (zQm G (mOK ((mf_elects m_at m_beside Wd R nr nc).2.1) Wd R nr nc) (some (.int (zb ((mf_elects m_at m_beside Wd R nr nc).1)))) (mW G ad m_status m_top m_bottom m_taped m_size m_token m_from m_end m_value m_faultKind m_faultPlace m_faults m_seen m_depth m_counted m_lead m_round m_tried m_triedMany m_drawn m_ranSteps m_isTold m_marks ((mf_elects m_at m_beside Wd R nr nc).2.1) m_names m_sort m_trayMany m_trays m_tape m_text m_opened ((mf_elects m_at m_beside Wd R nr nc).2.2) m_then m_ways m_further m_canBe m_loops m_ran m_told0) A) ([.ref (ad 0)] : List Value).toArray s 0 0 A) (F0 m 25 ls []) := by
        intro n
        induction n with
        | zero => exact fun _ h => absurd h (Nat.not_lt_zero _)
        | succ n ih_3 =>
          intro s_3 hmu_3 hR_3 hi2 hi1 H locs hP hD hS ls hl
          refine lv_iload_n hx hb dX7_elects_25 rfl (lv_at hl 0 rfl) ?_
          refine lv_aload_n hx hb dX7_elects_26 rfl (lv_at hl 2 rfl) ?_
          refine va_get (D := G.1) (ci := 7) (v := .ref (ad 1)) (C := RX7) (T := TX7) (N := 39) hx hb hts in_X7 hown hK.1 hP 0 rfl rfl 0 (Nat.le_of_ble_eq_true rfl) (hts _ q1467) (fun _ h => h) rfl dX7_elects_27 ?_
          refine lv_iconst (v := 5) hx hb dX7_elects_30 (by decide) ?_
          refine zr_iald 5 (v := nI nr) hx hb hK hP 1 rfl rfl (Nat.le_of_ble_eq_true rfl) rfl (by decide) (mOK_nr hG) dX7_elects_31 ?_
          refine zr_ge s_3.1 nr (by omega) (by omega) (tgt := 56) hx hb dX7_elects_32 (by decide) (fun c_4 => ?_) (fun c_4 => ?_)
          · exact hx_3 (s_3.1, s_3.2.1, s_3.2.2) (hR_3.symm.trans (zw_r (by rw [mf_elects_B25, if_pos c_4]))) hi1 H locs hP hD hS ls (lv_sub hl [1, 2] rfl)
          · refine lv_aload_n hx hb dX7_elects_35 rfl (lv_at hl 2 rfl) ?_
            refine lv_iload_n hx hb dX7_elects_36 rfl (lv_at hl 0 rfl) ?_
            refine zr_muV (F := mf_votesFor m_at s_3.2.2 Wd R nr nc (nI s_3.1)) (ff := fun t_5 => True) (rr := fun t_5 => some (.int t_5.1)) (w1 := fun t_5 => (mW G ad m_status m_top m_bottom m_taped m_size m_token m_from m_end m_value m_faultKind m_faultPlace m_faults m_seen m_depth m_counted m_lead m_round m_tried m_triedMany m_drawn m_ranSteps m_isTold m_marks m_at m_names m_sort m_trayMany m_trays m_tape m_text m_opened t_5.2 m_then m_ways m_further m_canBe m_loops m_ran m_told0)) ⟨hx, hb, hml, hown, hts⟩ (mt_mf_votesFor l G ad m_status m_top m_bottom m_taped m_size m_token m_from m_end m_value m_faultKind m_faultPlace m_faults m_seen m_depth m_counted m_lead m_round m_tried m_triedMany m_drawn m_ranSteps m_isTold m_marks m_at m_names m_sort m_trayMany m_trays m_tape m_text m_opened s_3.2.2 m_then m_ways m_further m_canBe m_loops m_ran m_told0 Wd R nr nc (nI s_3.1) hG H.size) (cwV 1 hts (lw_V q2062 q2064 qs122 q144 q2065) rfl rfl rfl hd_X7_votesFor ⟨(Nat.le_of_ble_eq_true rfl), (Nat.le_of_ble_eq_true rfl)⟩) hP hD hS hA hK hE 0 7 rfl rfl rfl hl.1 rfl (Nat.le_of_ble_eq_true rfl) dX7_elects_37 ⟨Nat.le_refl _, Nat.le_refl _⟩ (fun t_5 ht_5 hft_5 H locs hP hD hS _ => ?_)
            refine W.eq (g2 := F0 m 40 ls [.int t_5.1]) rfl ?_
            refine lv_aload_n hx hb dX7_elects_40 rfl (lv_at hl 2 rfl) ?_
            refine lv_iload_n hx hb dX7_elects_41 rfl (lv_at hl 1 rfl) ?_
            refine zr_muV (F := mf_votesFor m_at t_5.2 Wd R nr nc (nI s_3.2.1)) (ff := fun t_6 => True) (rr := fun t_6 => some (.int t_6.1)) (w1 := fun t_6 => (mW G ad m_status m_top m_bottom m_taped m_size m_token m_from m_end m_value m_faultKind m_faultPlace m_faults m_seen m_depth m_counted m_lead m_round m_tried m_triedMany m_drawn m_ranSteps m_isTold m_marks m_at m_names m_sort m_trayMany m_trays m_tape m_text m_opened t_6.2 m_then m_ways m_further m_canBe m_loops m_ran m_told0)) ⟨hx, hb, hml, hown, hts⟩ (mt_mf_votesFor l G ad m_status m_top m_bottom m_taped m_size m_token m_from m_end m_value m_faultKind m_faultPlace m_faults m_seen m_depth m_counted m_lead m_round m_tried m_triedMany m_drawn m_ranSteps m_isTold m_marks m_at m_names m_sort m_trayMany m_trays m_tape m_text m_opened t_5.2 m_then m_ways m_further m_canBe m_loops m_ran m_told0 Wd R nr nc (nI s_3.2.1) hG H.size) (cwV 1 hts (lw_V q2062 q2064 qs122 q144 q2065) rfl rfl rfl hd_X7_votesFor ⟨(Nat.le_of_ble_eq_true rfl), (Nat.le_of_ble_eq_true rfl)⟩) hP hD hS hA hK hE 0 7 rfl rfl rfl hl.1 rfl (Nat.le_of_ble_eq_true rfl) dX7_elects_42 ⟨Nat.le_refl _, Nat.le_refl _⟩ (fun t_6 ht_6 hft_6 H locs hP hD hS _ => ?_)
            refine W.eq (g2 := F0 m 45 ls [.int t_6.1, .int t_5.1]) rfl ?_
            refine lv_icmp_le (tgt := 50) hx hb dX7_elects_45 (by decide) (fun c_7 => ?_) (fun c_7 => ?_)
            · refine lv_iinc (v := nI (s_3.1 + 1)) (lv' := [(2, .int (nI (s_3.1 + 1))), (1, .int (nI s_3.2.1)), (0, .ref (ad 0))]) hx hb dX7_elects_50 hl (k := 0) rfl (nI_add s_3.1 1) (by decide) rfl (fun ls hl => ?_)
              refine lv_goto (tgt := 25) hx hb dX7_elects_53 (by decide) ?_
              exact ih_3 (s_3.1 + 1, s_3.2.1, t_6.2) (by omega) ((zw_l (by rw [mf_elects_B25, if_neg c_4, zlet_eq ht_5, zlet_eq ht_6, if_pos c_7])).symm.trans hR_3) (by omega) (by first | omega | (dsimp only; omega)) H locs hP hD hS ls (lv_sub hl [0, 1, 2] rfl)
            · refine lv_iload_n hx hb dX7_elects_48 rfl (lv_at hl 0 rfl) ?_
              refine lv_istore_n (lv' := [(1, .int (nI s_3.1)), (2, .int (nI s_3.1)), (0, .ref (ad 0))]) hx hb dX7_elects_49 rfl hl (by decide) rfl (fun ls hl => ?_)
              refine lv_iinc (v := nI (s_3.1 + 1)) (lv' := [(2, .int (nI (s_3.1 + 1))), (1, .int (nI s_3.1)), (0, .ref (ad 0))]) hx hb dX7_elects_50 hl (k := 1) rfl (nI_add s_3.1 1) (by decide) rfl (fun ls hl => ?_)
              refine lv_goto (tgt := 25) hx hb dX7_elects_53 (by decide) ?_
              exact ih_3 (s_3.1 + 1, s_3.1, t_6.2) (by omega) ((zw_l (by rw [mf_elects_B25, if_neg c_4, zlet_eq ht_5, zlet_eq ht_6, if_neg c_7])).symm.trans hR_3) (by omega) (by first | omega | (dsimp only; omega)) H locs hP hD hS ls (lv_sub hl [0, 1, 2] rfl)
      exact hlp_3 _ (1, 0, m_beside) (Nat.lt_succ_self _) (by rw [mf_elects_L25]) (by omega) (by first | omega | (dsimp only; omega)) H locs hP hD hS ls (lv_sub hl [0, 1, 2] rfl)
    · refine lv_iconst (v := 0) hx hb dX7_elects_19 (by decide) ?_
      have e_ : mf_elects m_at m_beside Wd R nr nc = (false, m_at, m_beside) := by rw [mf_elects, if_neg c_1, if_pos c_2]
      exact zr_mz hx hb hr hlocks hP hD hS dX7_elects_20 rfl (by rw [e_]; rfl) (by rw [e_]) (by rw [e_]; exact hG)
def mf_elect (m_at : Nat → Int32) (m_beside : Nat → Int32) (Wd : Nat) (R : Nat) (nr : Nat) (nc : Nat) : Int32 × Int32 × (Nat → Int32) × (Nat → Int32) :=
  zlet (mf_elects m_at m_beside Wd R nr nc) (fun t_1 =>
  (if t_1.1 = true then
    (t_1.2.1 10, 0, t_1.2.1, t_1.2.2)
  else
    ((-1), 6, t_1.2.1, t_1.2.2)))
theorem hd_X7_elect : yX7_elect.cls = RX7 ∧ yX7_elect.cls ≠ "java/lang/invoke/MethodHandle" ∧ yX7_elect.cls ≠ "java/lang/invoke/VarHandle" ∧ (parseMethodDescriptor yX7_elect.desc).map (fun d => d.parameters.length) = some 0 := by decide +kernel
set_option maxHeartbeats 4000000 in
set_option maxRecDepth 100000 in
theorem mt_mf_elect (l : Launch) (G : zG) (ad : Nat → Nat) (m_status : Int32) (m_top : Int64) (m_bottom : Int64) (m_taped : Int32) (m_size : Int32) (m_token : Int32) (m_from : Int32) (m_end : Int32) (m_value : Int32) (m_faultKind : Int32) (m_faultPlace : Int32) (m_faults : Int32) (m_seen : Int32) (m_depth : Int32) (m_counted : Int32) (m_lead : Int32) (m_round : Int32) (m_tried : Int32) (m_triedMany : Int32) (m_drawn : Int32) (m_ranSteps : Int32) (m_isTold : Bool) (m_marks : Int32) (m_at : Nat → Int32) (m_names : Nat → Int64) (m_sort : Nat → Int32) (m_trayMany : Nat → Int32) (m_trays : Nat → Int64) (m_tape : Nat → Int32) (m_text : Nat → Int32) (m_opened : Nat → Int32) (m_beside : Nat → Int32) (m_then : Nat → Int32) (m_ways : Nat → Int64) (m_further : Nat → Int64) (m_canBe : Nat → Int32) (m_loops : Nat → Int32) (m_ran : Nat → Int32) (m_told0 : Nat → Int32) (Wd : Nat) (R : Nat) (nr : Nat) (nc : Nat) (hG : mOK m_at Wd R nr nc) (sz : Nat) : Met l yX7_elect (ws_ yX7_elect cX7_elect 1 (some .int)) (zR 7 0 0) (zPm G sz [.ref (ad 0)] (mW G ad m_status m_top m_bottom m_taped m_size m_token m_from m_end m_value m_faultKind m_faultPlace m_faults m_seen m_depth m_counted m_lead m_round m_tried m_triedMany m_drawn m_ranSteps m_isTold m_marks m_at m_names m_sort m_trayMany m_trays m_tape m_text m_opened m_beside m_then m_ways m_further m_canBe m_loops m_ran m_told0)) (zQm G (mOK ((mf_elect m_at m_beside Wd R nr nc).2.2.1) Wd R nr nc) (some (.int ((mf_elect m_at m_beside Wd R nr nc).1))) (mW G ad ((mf_elect m_at m_beside Wd R nr nc).2.1) m_top m_bottom m_taped m_size m_token m_from m_end m_value m_faultKind m_faultPlace m_faults m_seen m_depth m_counted m_lead m_round m_tried m_triedMany m_drawn m_ranSteps m_isTold m_marks ((mf_elect m_at m_beside Wd R nr nc).2.2.1) m_names m_sort m_trayMany m_trays m_tape m_text m_opened ((mf_elect m_at m_beside Wd R nr nc).2.2.2) m_then m_ways m_further m_canBe m_loops m_ran m_told0) (va_A (mW G ad m_status m_top m_bottom m_taped m_size m_token m_from m_end m_value m_faultKind m_faultPlace m_faults m_seen m_depth m_counted m_lead m_round m_tried m_triedMany m_drawn m_ranSteps m_isTold m_marks m_at m_names m_sort m_trayMany m_trays m_tape m_text m_opened m_beside m_then m_ways m_further m_canBe m_loops m_ran m_told0) sz)) 0 0 (va_A (mW G ad m_status m_top m_bottom m_taped m_size m_token m_from m_end m_value m_faultKind m_faultPlace m_faults m_seen m_depth m_counted m_lead m_round m_tried m_triedMany m_drawn m_ranSteps m_isTold m_marks m_at m_names m_sort m_trayMany m_trays m_tape m_text m_opened m_beside m_then m_ways m_further m_canBe m_loops m_ran m_told0) sz) := by
  refine zr_entM (by decide) (Nat.le_of_ble_eq_true rfl) ?_
  intro p e s m below meth c ⟨hx, hb, hr, hml, hown, hts, hlocks, hnm⟩ ls hl hP hK A hE hA hD hS
  have hown : s.vm.findClass RX7 = some m.cls := hown
  have hl : lv_has ls 1 [(0, .ref (ad 0))] := hl
  obtain ⟨H, hH⟩ : ∃ H, H = s.heap := ⟨_, rfl⟩
  obtain ⟨locs, hlo⟩ : ∃ L : List Loc, L = [] := ⟨_, rfl⟩
  rw [← hH] at hP
  have hS : va_S A s.heap H locs := by rw [hH, hlo]; exact va_S.rf
  have hgo : W p l e (zR 7 0 0) s m ([.ref (ad 0)] : List Value).toArray below meth c H locs 0 0 (MQ below (zQm G (mOK ((mf_elect m_at m_beside Wd R nr nc).2.2.1) Wd R nr nc) (some (.int ((mf_elect m_at m_beside Wd R nr nc).1))) (mW G ad ((mf_elect m_at m_beside Wd R nr nc).2.1) m_top m_bottom m_taped m_size m_token m_from m_end m_value m_faultKind m_faultPlace m_faults m_seen m_depth m_counted m_lead m_round m_tried m_triedMany m_drawn m_ranSteps m_isTold m_marks ((mf_elect m_at m_beside Wd R nr nc).2.2.1) m_names m_sort m_trayMany m_trays m_tape m_text m_opened ((mf_elect m_at m_beside Wd R nr nc).2.2.2) m_then m_ways m_further m_canBe m_loops m_ran m_told0) A) ([.ref (ad 0)] : List Value).toArray s 0 0 A) (F0 m 0 ls []) := ?_
  · rw [hH, hlo] at hgo; exact hgo
  clear hH hlo
  have hWR := mOK_WR hG
  have hW0 := mOK_W0 hG
  have hW5 := mOK_W5 hG
  have hR0 := mOK_R0 hG
  have hR6 := mOK_R6 hG
  have hn4 := mOK_n4 hG
  have hc6 := mOK_c6 hG
  refine lv_aload_n hx hb dX7_elect_0 rfl (lv_at hl 0 rfl) ?_
  refine zr_muV (F := mf_elects m_at m_beside Wd R nr nc) (ff := fun t_1 => mOK t_1.2.1 Wd R nr nc) (rr := fun t_1 => some (.int (zb t_1.1))) (w1 := fun t_1 => (mW G ad m_status m_top m_bottom m_taped m_size m_token m_from m_end m_value m_faultKind m_faultPlace m_faults m_seen m_depth m_counted m_lead m_round m_tried m_triedMany m_drawn m_ranSteps m_isTold m_marks t_1.2.1 m_names m_sort m_trayMany m_trays m_tape m_text m_opened t_1.2.2 m_then m_ways m_further m_canBe m_loops m_ran m_told0)) ⟨hx, hb, hml, hown, hts⟩ (mt_mf_elects l G ad m_status m_top m_bottom m_taped m_size m_token m_from m_end m_value m_faultKind m_faultPlace m_faults m_seen m_depth m_counted m_lead m_round m_tried m_triedMany m_drawn m_ranSteps m_isTold m_marks m_at m_names m_sort m_trayMany m_trays m_tape m_text m_opened m_beside m_then m_ways m_further m_canBe m_loops m_ran m_told0 Wd R nr nc hG H.size) (cwV 0 hts (lw_V q2070 q2072 qs123 q144 q2073) rfl rfl rfl hd_X7_elects ⟨(Nat.le_of_ble_eq_true rfl), (Nat.le_of_ble_eq_true rfl)⟩) hP hD hS hA hK hE 0 7 rfl rfl rfl hl.1 rfl (Nat.le_of_ble_eq_true rfl) dX7_elect_1 ⟨Nat.le_refl _, Nat.le_refl _⟩ (fun t_1 ht_1 hft_1 H locs hP hD hS _ => ?_)
  refine W.eq (g2 := F0 m 4 ls [.int (zb t_1.1)]) rfl ?_
  have ok_m_at_t_1 := hft_1
  refine zr_eqB t_1.1 (tgt := 21) hx hb dX7_elect_4 (by decide) (fun c_2 => ?_) (fun c_2 => ?_)
  · refine lv_aload_n hx hb dX7_elect_21 rfl (lv_at hl 0 rfl) ?_
    refine lv_bipush (v := 6) hx hb dX7_elect_22 (by decide) ?_
    refine zr_muV (F := ()) (ff := fun _ => True) (rr := fun _ => some (.int (-1))) (w1 := fun _ => (mW G ad 6 m_top m_bottom m_taped m_size m_token m_from m_end m_value m_faultKind m_faultPlace m_faults m_seen m_depth m_counted m_lead m_round m_tried m_triedMany m_drawn m_ranSteps m_isTold m_marks t_1.2.1 m_names m_sort m_trayMany m_trays m_tape m_text m_opened t_1.2.2 m_then m_ways m_further m_canBe m_loops m_ran m_told0)) ⟨hx, hb, hml, hown, hts⟩ (mt_mf_refuse l G ad m_status m_top m_bottom m_taped m_size m_token m_from m_end m_value m_faultKind m_faultPlace m_faults m_seen m_depth m_counted m_lead m_round m_tried m_triedMany m_drawn m_ranSteps m_isTold m_marks t_1.2.1 m_names m_sort m_trayMany m_trays m_tape m_text m_opened t_1.2.2 m_then m_ways m_further m_canBe m_loops m_ran m_told0 6 H.size) (cwV 1 hts (lw_V q1666 q1668 qs66 q144 q1669) rfl rfl rfl hd_X7_refuse ⟨(Nat.le_of_ble_eq_true rfl), (Nat.le_of_ble_eq_true rfl)⟩) hP hD hS hA hK hE 0 7 rfl rfl rfl hl.1 rfl (Nat.le_of_ble_eq_true rfl) dX7_elect_24 ⟨Nat.le_refl _, Nat.le_refl _⟩ (fun _ _ _ H locs hP hD hS _ => ?_)
    refine W.eq (g2 := F0 m 27 ls [.int (-1)]) rfl ?_
    have e_ : mf_elect m_at m_beside Wd R nr nc = ((-1), 6, t_1.2.1, t_1.2.2) := by rw [mf_elect, zlet_eq ht_1, if_neg c_2]
    exact zr_mi hx hb hr hlocks hP hD hS dX7_elect_27 (by rw [e_])  (by rw [e_]) (by rw [e_]; exact ok_m_at_t_1)
  · refine lv_aload_n hx hb dX7_elect_7 rfl (lv_at hl 0 rfl) ?_
    refine lv_aload_n hx hb dX7_elect_8 rfl (lv_at hl 0 rfl) ?_
    refine va_get (D := G.1) (ci := 7) (v := .ref (ad 1)) (C := RX7) (T := TX7) (N := 39) hx hb hts in_X7 hown hK.1 hP 0 rfl rfl 0 (Nat.le_of_ble_eq_true rfl) (hts _ q1467) (fun _ h => h) rfl dX7_elect_9 ?_
    refine lv_bipush (v := 10) hx hb dX7_elect_12 (by decide) ?_
    refine zr_iald 10 (v := t_1.2.1 10) hx hb hK hP 1 rfl rfl (Nat.le_of_ble_eq_true rfl) rfl (by decide) rfl dX7_elect_14 ?_
    refine zr_muV (F := ()) (ff := fun _ => True) (rr := fun _ => some (.int (t_1.2.1 10))) (w1 := fun _ => (mW G ad 0 m_top m_bottom m_taped m_size m_token m_from m_end m_value m_faultKind m_faultPlace m_faults m_seen m_depth m_counted m_lead m_round m_tried m_triedMany m_drawn m_ranSteps m_isTold m_marks t_1.2.1 m_names m_sort m_trayMany m_trays m_tape m_text m_opened t_1.2.2 m_then m_ways m_further m_canBe m_loops m_ran m_told0)) ⟨hx, hb, hml, hown, hts⟩ (mt_mf_gives l G ad m_status m_top m_bottom m_taped m_size m_token m_from m_end m_value m_faultKind m_faultPlace m_faults m_seen m_depth m_counted m_lead m_round m_tried m_triedMany m_drawn m_ranSteps m_isTold m_marks t_1.2.1 m_names m_sort m_trayMany m_trays m_tape m_text m_opened t_1.2.2 m_then m_ways m_further m_canBe m_loops m_ran m_told0 (t_1.2.1 10) H.size) (cwV 1 hts (lw_V q1751 q1753 qs85 q144 q1754) rfl rfl rfl hd_X7_gives ⟨(Nat.le_of_ble_eq_true rfl), (Nat.le_of_ble_eq_true rfl)⟩) hP hD hS hA hK hE 0 7 rfl rfl rfl hl.1 rfl (Nat.le_of_ble_eq_true rfl) dX7_elect_15 ⟨Nat.le_refl _, Nat.le_refl _⟩ (fun _ _ _ H locs hP hD hS _ => ?_)
    refine W.eq (g2 := F0 m 18 ls [.int (t_1.2.1 10)]) rfl ?_
    refine lv_goto (tgt := 27) hx hb dX7_elect_18 (by decide) ?_
    have e_ : mf_elect m_at m_beside Wd R nr nc = (t_1.2.1 10, 0, t_1.2.1, t_1.2.2) := by rw [mf_elect, zlet_eq ht_1, if_pos c_2]
    exact zr_mi hx hb hr hlocks hP hD hS dX7_elect_27 (by rw [e_])  (by rw [e_]) (by rw [e_]; exact ok_m_at_t_1)
def mf_reads_B67 (m_at : Nat → Int32) (Wd : Nat) (R : Nat) (kk : Int32) (k_9 : Nat) (s_9 : Int32) : Int32 :=
  s_9 ||| ((((m_at 3) >>> (((nI (Wd * k_9)) + kk) &&& 31)) &&& 1) <<< ((nI k_9) &&& 31))
def mf_reads_L67 (m_at : Nat → Int32) (Wd : Nat) (R : Nat) (kk : Int32) (s_9 : Int32) : Int32 := zf (mf_reads_B67 m_at Wd R kk) s_9 R
def mf_reads (m_at : Nat → Int32) (Wd : Nat) (R : Nat) (kk : Int32) (what : Int32) : Int32 × Int32 :=
  (if what < 0 then
    ((-1), 1)
  else
    (if 1 < what then
      ((-1), 1)
    else
      (if kk < 0 then
        ((-1), 1)
      else
        (if what = 0 then
          (if kk < (nI R) then
            (mf_rowOf Wd (m_at 3) kk, 0)
          else
            ((-1), 1))
        else
          (if kk < (nI Wd) then
            zlet (mf_reads_L67 m_at Wd R kk 0) (fun s_9 =>
            (s_9, 0))
          else
            ((-1), 1))))))
theorem hd_X7_reads : yX7_reads.cls = RX7 ∧ yX7_reads.cls ≠ "java/lang/invoke/MethodHandle" ∧ yX7_reads.cls ≠ "java/lang/invoke/VarHandle" ∧ (parseMethodDescriptor yX7_reads.desc).map (fun d => d.parameters.length) = some 2 := by decide +kernel
set_option maxHeartbeats 4000000 in
set_option maxRecDepth 100000 in
theorem mt_mf_reads (l : Launch) (G : zG) (ad : Nat → Nat) (m_status : Int32) (m_top : Int64) (m_bottom : Int64) (m_taped : Int32) (m_size : Int32) (m_token : Int32) (m_from : Int32) (m_end : Int32) (m_value : Int32) (m_faultKind : Int32) (m_faultPlace : Int32) (m_faults : Int32) (m_seen : Int32) (m_depth : Int32) (m_counted : Int32) (m_lead : Int32) (m_round : Int32) (m_tried : Int32) (m_triedMany : Int32) (m_drawn : Int32) (m_ranSteps : Int32) (m_isTold : Bool) (m_marks : Int32) (m_at : Nat → Int32) (m_names : Nat → Int64) (m_sort : Nat → Int32) (m_trayMany : Nat → Int32) (m_trays : Nat → Int64) (m_tape : Nat → Int32) (m_text : Nat → Int32) (m_opened : Nat → Int32) (m_beside : Nat → Int32) (m_then : Nat → Int32) (m_ways : Nat → Int64) (m_further : Nat → Int64) (m_canBe : Nat → Int32) (m_loops : Nat → Int32) (m_ran : Nat → Int32) (m_told0 : Nat → Int32) (Wd : Nat) (R : Nat) (nr : Nat) (nc : Nat) (kk : Int32) (what : Int32) (hG : mOK m_at Wd R nr nc) (sz : Nat) : Met l yX7_reads (ws_ yX7_reads cX7_reads 5 (some .int)) (zR 2 0 0) (zPm G sz [.ref (ad 0), .int kk, .int what] (mW G ad m_status m_top m_bottom m_taped m_size m_token m_from m_end m_value m_faultKind m_faultPlace m_faults m_seen m_depth m_counted m_lead m_round m_tried m_triedMany m_drawn m_ranSteps m_isTold m_marks m_at m_names m_sort m_trayMany m_trays m_tape m_text m_opened m_beside m_then m_ways m_further m_canBe m_loops m_ran m_told0)) (zQm G (True) (some (.int ((mf_reads m_at Wd R kk what).1))) (mW G ad ((mf_reads m_at Wd R kk what).2) m_top m_bottom m_taped m_size m_token m_from m_end m_value m_faultKind m_faultPlace m_faults m_seen m_depth m_counted m_lead m_round m_tried m_triedMany m_drawn m_ranSteps m_isTold m_marks m_at m_names m_sort m_trayMany m_trays m_tape m_text m_opened m_beside m_then m_ways m_further m_canBe m_loops m_ran m_told0) (va_A (mW G ad m_status m_top m_bottom m_taped m_size m_token m_from m_end m_value m_faultKind m_faultPlace m_faults m_seen m_depth m_counted m_lead m_round m_tried m_triedMany m_drawn m_ranSteps m_isTold m_marks m_at m_names m_sort m_trayMany m_trays m_tape m_text m_opened m_beside m_then m_ways m_further m_canBe m_loops m_ran m_told0) sz)) 0 0 (va_A (mW G ad m_status m_top m_bottom m_taped m_size m_token m_from m_end m_value m_faultKind m_faultPlace m_faults m_seen m_depth m_counted m_lead m_round m_tried m_triedMany m_drawn m_ranSteps m_isTold m_marks m_at m_names m_sort m_trayMany m_trays m_tape m_text m_opened m_beside m_then m_ways m_further m_canBe m_loops m_ran m_told0) sz) := by
  refine zr_entM (by decide) (Nat.le_of_ble_eq_true rfl) ?_
  intro p e s m below meth c ⟨hx, hb, hr, hml, hown, hts, hlocks, hnm⟩ ls hl hP hK A hE hA hD hS
  have hown : s.vm.findClass RX7 = some m.cls := hown
  have hl : lv_has ls 5 [(0, .ref (ad 0)), (1, .int kk), (2, .int what)] := hl
  obtain ⟨H, hH⟩ : ∃ H, H = s.heap := ⟨_, rfl⟩
  obtain ⟨locs, hlo⟩ : ∃ L : List Loc, L = [] := ⟨_, rfl⟩
  rw [← hH] at hP
  have hS : va_S A s.heap H locs := by rw [hH, hlo]; exact va_S.rf
  have hgo : W p l e (zR 2 0 0) s m ([.ref (ad 0), .int kk, .int what] : List Value).toArray below meth c H locs 0 0 (MQ below (zQm G (True) (some (.int ((mf_reads m_at Wd R kk what).1))) (mW G ad ((mf_reads m_at Wd R kk what).2) m_top m_bottom m_taped m_size m_token m_from m_end m_value m_faultKind m_faultPlace m_faults m_seen m_depth m_counted m_lead m_round m_tried m_triedMany m_drawn m_ranSteps m_isTold m_marks m_at m_names m_sort m_trayMany m_trays m_tape m_text m_opened m_beside m_then m_ways m_further m_canBe m_loops m_ran m_told0) A) ([.ref (ad 0), .int kk, .int what] : List Value).toArray s 0 0 A) (F0 m 0 ls []) := ?_
  · rw [hH, hlo] at hgo; exact hgo
  clear hH hlo
  have hWR := mOK_WR hG
  have hW0 := mOK_W0 hG
  have hW5 := mOK_W5 hG
  have hR0 := mOK_R0 hG
  have hR6 := mOK_R6 hG
  have hn4 := mOK_n4 hG
  have hc6 := mOK_c6 hG
  refine lv_iload_n hx hb dX7_reads_0 rfl (lv_at hl 2 rfl) ?_
  refine lv_if_lt (tgt := 36) hx hb dX7_reads_1 (by decide) (fun c_1 => ?_) (fun c_1 => ?_)
  · refine lv_aload_n hx hb dX7_reads_36 rfl (lv_at hl 0 rfl) ?_
    refine lv_iconst (v := 1) hx hb dX7_reads_37 (by decide) ?_
    refine zr_muV (F := ()) (ff := fun _ => True) (rr := fun _ => some (.int (-1))) (w1 := fun _ => (mW G ad 1 m_top m_bottom m_taped m_size m_token m_from m_end m_value m_faultKind m_faultPlace m_faults m_seen m_depth m_counted m_lead m_round m_tried m_triedMany m_drawn m_ranSteps m_isTold m_marks m_at m_names m_sort m_trayMany m_trays m_tape m_text m_opened m_beside m_then m_ways m_further m_canBe m_loops m_ran m_told0)) ⟨hx, hb, hml, hown, hts⟩ (mt_mf_refuse l G ad m_status m_top m_bottom m_taped m_size m_token m_from m_end m_value m_faultKind m_faultPlace m_faults m_seen m_depth m_counted m_lead m_round m_tried m_triedMany m_drawn m_ranSteps m_isTold m_marks m_at m_names m_sort m_trayMany m_trays m_tape m_text m_opened m_beside m_then m_ways m_further m_canBe m_loops m_ran m_told0 1 H.size) (cwV 1 hts (lw_V q1666 q1668 qs66 q144 q1669) rfl rfl rfl hd_X7_refuse ⟨(Nat.le_of_ble_eq_true rfl), (Nat.le_of_ble_eq_true rfl)⟩) hP hD hS hA hK hE 0 7 rfl rfl rfl hl.1 rfl (Nat.le_of_ble_eq_true rfl) dX7_reads_38 ⟨Nat.le_refl _, Nat.le_refl _⟩ (fun _ _ _ H locs hP hD hS _ => ?_)
    refine W.eq (g2 := F0 m 41 ls [.int (-1)]) rfl ?_
    have e_ : mf_reads m_at Wd R kk what = ((-1), 1) := by rw [mf_reads, if_pos c_1]
    exact zr_mi hx hb hr hlocks hP hD hS dX7_reads_41 (by rw [e_])  (by rw [e_]) trivial
  · refine lv_iload_n hx hb dX7_reads_4 rfl (lv_at hl 2 rfl) ?_
    refine lv_iconst (v := 1) hx hb dX7_reads_5 (by decide) ?_
    refine lv_icmp_gt (tgt := 36) hx hb dX7_reads_6 (by decide) (fun c_3 => ?_) (fun c_3 => ?_)
    · refine lv_aload_n hx hb dX7_reads_36 rfl (lv_at hl 0 rfl) ?_
      refine lv_iconst (v := 1) hx hb dX7_reads_37 (by decide) ?_
      refine zr_muV (F := ()) (ff := fun _ => True) (rr := fun _ => some (.int (-1))) (w1 := fun _ => (mW G ad 1 m_top m_bottom m_taped m_size m_token m_from m_end m_value m_faultKind m_faultPlace m_faults m_seen m_depth m_counted m_lead m_round m_tried m_triedMany m_drawn m_ranSteps m_isTold m_marks m_at m_names m_sort m_trayMany m_trays m_tape m_text m_opened m_beside m_then m_ways m_further m_canBe m_loops m_ran m_told0)) ⟨hx, hb, hml, hown, hts⟩ (mt_mf_refuse l G ad m_status m_top m_bottom m_taped m_size m_token m_from m_end m_value m_faultKind m_faultPlace m_faults m_seen m_depth m_counted m_lead m_round m_tried m_triedMany m_drawn m_ranSteps m_isTold m_marks m_at m_names m_sort m_trayMany m_trays m_tape m_text m_opened m_beside m_then m_ways m_further m_canBe m_loops m_ran m_told0 1 H.size) (cwV 1 hts (lw_V q1666 q1668 qs66 q144 q1669) rfl rfl rfl hd_X7_refuse ⟨(Nat.le_of_ble_eq_true rfl), (Nat.le_of_ble_eq_true rfl)⟩) hP hD hS hA hK hE 0 7 rfl rfl rfl hl.1 rfl (Nat.le_of_ble_eq_true rfl) dX7_reads_38 ⟨Nat.le_refl _, Nat.le_refl _⟩ (fun _ _ _ H locs hP hD hS _ => ?_)
      refine W.eq (g2 := F0 m 41 ls [.int (-1)]) rfl ?_
      have e_ : mf_reads m_at Wd R kk what = ((-1), 1) := by rw [mf_reads, if_neg c_1, if_pos c_3]
      exact zr_mi hx hb hr hlocks hP hD hS dX7_reads_41 (by rw [e_])  (by rw [e_]) trivial
    · refine lv_iload_n hx hb dX7_reads_9 rfl (lv_at hl 1 rfl) ?_
      refine lv_if_lt (tgt := 36) hx hb dX7_reads_10 (by decide) (fun c_5 => ?_) (fun c_5 => ?_)
      · refine lv_aload_n hx hb dX7_reads_36 rfl (lv_at hl 0 rfl) ?_
        refine lv_iconst (v := 1) hx hb dX7_reads_37 (by decide) ?_
        refine zr_muV (F := ()) (ff := fun _ => True) (rr := fun _ => some (.int (-1))) (w1 := fun _ => (mW G ad 1 m_top m_bottom m_taped m_size m_token m_from m_end m_value m_faultKind m_faultPlace m_faults m_seen m_depth m_counted m_lead m_round m_tried m_triedMany m_drawn m_ranSteps m_isTold m_marks m_at m_names m_sort m_trayMany m_trays m_tape m_text m_opened m_beside m_then m_ways m_further m_canBe m_loops m_ran m_told0)) ⟨hx, hb, hml, hown, hts⟩ (mt_mf_refuse l G ad m_status m_top m_bottom m_taped m_size m_token m_from m_end m_value m_faultKind m_faultPlace m_faults m_seen m_depth m_counted m_lead m_round m_tried m_triedMany m_drawn m_ranSteps m_isTold m_marks m_at m_names m_sort m_trayMany m_trays m_tape m_text m_opened m_beside m_then m_ways m_further m_canBe m_loops m_ran m_told0 1 H.size) (cwV 1 hts (lw_V q1666 q1668 qs66 q144 q1669) rfl rfl rfl hd_X7_refuse ⟨(Nat.le_of_ble_eq_true rfl), (Nat.le_of_ble_eq_true rfl)⟩) hP hD hS hA hK hE 0 7 rfl rfl rfl hl.1 rfl (Nat.le_of_ble_eq_true rfl) dX7_reads_38 ⟨Nat.le_refl _, Nat.le_refl _⟩ (fun _ _ _ H locs hP hD hS _ => ?_)
        refine W.eq (g2 := F0 m 41 ls [.int (-1)]) rfl ?_
        have e_ : mf_reads m_at Wd R kk what = ((-1), 1) := by rw [mf_reads, if_neg c_1, if_neg c_3, if_pos c_5]
        exact zr_mi hx hb hr hlocks hP hD hS dX7_reads_41 (by rw [e_])  (by rw [e_]) trivial
      · refine lv_iload_n hx hb dX7_reads_13 rfl (lv_at hl 1 rfl) ?_
        refine lv_iload_n hx hb dX7_reads_14 rfl (lv_at hl 2 rfl) ?_
        refine lv_if_ne (tgt := 27) hx hb dX7_reads_15 (by decide) (fun c_7 => ?_) (fun c_7 => ?_)
        · refine lv_aload_n hx hb dX7_reads_27 rfl (lv_at hl 0 rfl) ?_
          refine va_get (D := G.1) (ci := 7) (v := .ref (ad 1)) (C := RX7) (T := TX7) (N := 39) hx hb hts in_X7 hown hK.1 hP 0 rfl rfl 0 (Nat.le_of_ble_eq_true rfl) (hts _ q1467) (fun _ h => h) rfl dX7_reads_28 ?_
          refine lv_iconst (v := 0) hx hb dX7_reads_31 (by decide) ?_
          refine zr_iald 0 (v := nI Wd) hx hb hK hP 1 rfl rfl (Nat.le_of_ble_eq_true rfl) rfl (by decide) (mOK_w hG) dX7_reads_32 ?_
          refine lv_icmp_lt (tgt := 42) hx hb dX7_reads_33 (by decide) (fun c_8 => ?_) (fun c_8 => ?_)
          · refine lv_iload_n hx hb dX7_reads_42 rfl (lv_at hl 2 rfl) ?_
            refine lv_if_ne (tgt := 62) hx hb dX7_reads_43 (by decide) (fun _ => ?_) (fun z => absurd z c_7)
            refine lv_iconst (v := 0) hx hb dX7_reads_62 (by decide) ?_
            refine lv_istore_n (lv' := [(3, .int 0), (0, .ref (ad 0)), (1, .int kk), (2, .int what)]) hx hb dX7_reads_63 rfl hl (by decide) rfl (fun ls hl => ?_)
            refine lv_iconst (v := 0) hx hb dX7_reads_64 (by decide) ?_
            refine lv_istore (lv' := [(4, .int 0), (3, .int 0), (0, .ref (ad 0)), (1, .int kk), (2, .int what)]) hx hb dX7_reads_65 hl (by decide) rfl (fun ls hl => ?_)
            have hlp_9 : ∀ (n k_9 : Nat) (s_9 : Int32), k_9 ≤ R → R < k_9 + n → zf (mf_reads_B67 m_at Wd R kk) 0 k_9 = s_9 → ∀ (H : Heap) (locs : List Loc), va_P G.1 zcl (mW G ad m_status m_top m_bottom m_taped m_size m_token m_from m_end m_value m_faultKind m_faultPlace m_faults m_seen m_depth m_counted m_lead m_round m_tried m_triedMany m_drawn m_ranSteps m_isTold m_marks m_at m_names m_sort m_trayMany m_trays m_tape m_text m_opened m_beside m_then m_ways m_further m_canBe m_loops m_ran m_told0) H → va_D A (mW G ad m_status m_top m_bottom m_taped m_size m_token m_from m_end m_value m_faultKind m_faultPlace m_faults m_seen m_depth m_counted m_lead m_round m_tried m_triedMany m_drawn m_ranSteps m_isTold m_marks m_at m_names m_sort m_trayMany m_trays m_tape m_text m_opened m_beside m_then m_ways m_further m_canBe m_loops m_ran m_told0) → va_S A s.heap H locs → ∀ ls : Array Slot, lv_has ls 5 [(4, .int (nI k_9)), (3, .int s_9), (0, .ref (ad 0)), (1, .int kk)] → W p l e (zR 2 0 0) s m ([.ref (ad 0), .int kk, .int what] : List Value).toArray below meth c H locs 0 0 (MQ below (zQm G (True) (some (.int ((mf_reads m_at Wd R kk what).1))) (mW G ad ((mf_reads m_at Wd R kk what).2) m_top m_bottom m_taped m_size m_token m_from m_end m_value m_faultKind m_faultPlace m_faults m_seen m_depth m_counted m_lead m_round m_tried m_triedMany m_drawn m_ranSteps m_isTold m_marks m_at m_names m_sort m_trayMany m_trays m_tape m_text m_opened m_beside m_then m_ways m_further m_canBe m_loops m_ran m_told0) A) ([.ref (ad 0), .int kk, .int what] : List Value).toArray s 0 0 A) (F0 m 67 ls []) := by
              intro n
              induction n with
              | zero => intro k_9 s_9 h1 h2; exact absurd h2 (by omega)
              | succ n ih_9 =>
                intro k_9 s_9 hk_9 hn_9 hst_9 H locs hP hD hS ls hl
                refine lv_iload hx hb dX7_reads_67 (lv_at hl 0 rfl) ?_
                refine lv_aload_n hx hb dX7_reads_69 rfl (lv_at hl 2 rfl) ?_
                refine va_get (D := G.1) (ci := 7) (v := .ref (ad 1)) (C := RX7) (T := TX7) (N := 39) hx hb hts in_X7 hown hK.1 hP 0 rfl rfl 0 (Nat.le_of_ble_eq_true rfl) (hts _ q1467) (fun _ h => h) rfl dX7_reads_70 ?_
                refine lv_iconst (v := 1) hx hb dX7_reads_73 (by decide) ?_
                refine zr_iald 1 (v := nI R) hx hb hK hP 1 rfl rfl (Nat.le_of_ble_eq_true rfl) rfl (by decide) (mOK_r hG) dX7_reads_74 ?_
                refine zr_ge k_9 R (by omega) (by omega) (tgt := 110) hx hb dX7_reads_75 (by decide) (fun c_9 => ?_) (fun c_9 => ?_)
                · have ek_9 : k_9 = R := Nat.le_antisymm hk_9 c_9
                  have hs_9 : mf_reads_L67 m_at Wd R kk 0 = s_9 := by rw [ek_9] at hst_9; exact hst_9
                  have hl := lv_sub hl (l' := _) [1, 2, 3] rfl
                  refine lv_aload_n hx hb dX7_reads_110 rfl (lv_at hl 1 rfl) ?_
                  refine lv_iload_n hx hb dX7_reads_111 rfl (lv_at hl 0 rfl) ?_
                  refine zr_muV (F := ()) (ff := fun _ => True) (rr := fun _ => some (.int s_9)) (w1 := fun _ => (mW G ad 0 m_top m_bottom m_taped m_size m_token m_from m_end m_value m_faultKind m_faultPlace m_faults m_seen m_depth m_counted m_lead m_round m_tried m_triedMany m_drawn m_ranSteps m_isTold m_marks m_at m_names m_sort m_trayMany m_trays m_tape m_text m_opened m_beside m_then m_ways m_further m_canBe m_loops m_ran m_told0)) ⟨hx, hb, hml, hown, hts⟩ (mt_mf_gives l G ad m_status m_top m_bottom m_taped m_size m_token m_from m_end m_value m_faultKind m_faultPlace m_faults m_seen m_depth m_counted m_lead m_round m_tried m_triedMany m_drawn m_ranSteps m_isTold m_marks m_at m_names m_sort m_trayMany m_trays m_tape m_text m_opened m_beside m_then m_ways m_further m_canBe m_loops m_ran m_told0 s_9 H.size) (cwV 1 hts (lw_V q1751 q1753 qs85 q144 q1754) rfl rfl rfl hd_X7_gives ⟨(Nat.le_of_ble_eq_true rfl), (Nat.le_of_ble_eq_true rfl)⟩) hP hD hS hA hK hE 0 7 rfl rfl rfl hl.1 rfl (Nat.le_of_ble_eq_true rfl) dX7_reads_112 ⟨Nat.le_refl _, Nat.le_refl _⟩ (fun _ _ _ H locs hP hD hS _ => ?_)
                  refine W.eq (g2 := F0 m 115 ls [.int s_9]) rfl ?_
                  have e_ : mf_reads m_at Wd R kk what = (s_9, 0) := by rw [mf_reads, if_neg c_1, if_neg c_3, if_neg c_5, if_neg c_7, if_pos c_8, zlet_eq hs_9]
                  exact zr_mi hx hb hr hlocks hP hD hS dX7_reads_115 (by rw [e_])  (by rw [e_]) trivial
                · have hlt_9 : k_9 < R := Nat.lt_of_not_le c_9
                  refine lv_iload_n hx hb dX7_reads_78 rfl (lv_at hl 1 rfl) ?_
                  refine lv_aload_n hx hb dX7_reads_79 rfl (lv_at hl 2 rfl) ?_
                  refine va_get (D := G.1) (ci := 7) (v := .ref (ad 1)) (C := RX7) (T := TX7) (N := 39) hx hb hts in_X7 hown hK.1 hP 0 rfl rfl 0 (Nat.le_of_ble_eq_true rfl) (hts _ q1467) (fun _ h => h) rfl dX7_reads_80 ?_
                  refine lv_iconst (v := 3) hx hb dX7_reads_83 (by decide) ?_
                  refine zr_iald 3 (v := m_at 3) hx hb hK hP 1 rfl rfl (Nat.le_of_ble_eq_true rfl) rfl (by decide) rfl dX7_reads_84 ?_
                  refine lv_aload_n hx hb dX7_reads_85 rfl (lv_at hl 2 rfl) ?_
                  refine va_get (D := G.1) (ci := 7) (v := .ref (ad 1)) (C := RX7) (T := TX7) (N := 39) hx hb hts in_X7 hown hK.1 hP 0 rfl rfl 0 (Nat.le_of_ble_eq_true rfl) (hts _ q1467) (fun _ h => h) rfl dX7_reads_86 ?_
                  refine lv_iconst (v := 0) hx hb dX7_reads_89 (by decide) ?_
                  refine zr_iald 0 (v := nI Wd) hx hb hK hP 1 rfl rfl (Nat.le_of_ble_eq_true rfl) rfl (by decide) (mOK_w hG) dX7_reads_90 ?_
                  refine lv_iload hx hb dX7_reads_91 (lv_at hl 0 rfl) ?_
                  refine zr_imulN Wd k_9 hx hb dX7_reads_93 ?_
                  refine lv_iload_n hx hb dX7_reads_94 rfl (lv_at hl 3 rfl) ?_
                  refine lv_iadd hx hb dX7_reads_95 ?_
                  refine lv_ishr hx hb dX7_reads_96 ?_
                  refine lv_iconst (v := 1) hx hb dX7_reads_97 (by decide) ?_
                  refine lv_iand hx hb dX7_reads_98 ?_
                  refine lv_iload hx hb dX7_reads_99 (lv_at hl 0 rfl) ?_
                  refine lv_ishl hx hb dX7_reads_101 ?_
                  refine lv_ior hx hb dX7_reads_102 ?_
                  refine lv_istore_n (lv' := [(3, .int (s_9 ||| ((((m_at 3) >>> (((nI (Wd * k_9)) + kk) &&& 31)) &&& 1) <<< ((nI k_9) &&& 31)))), (4, .int (nI k_9)), (0, .ref (ad 0)), (1, .int kk)]) hx hb dX7_reads_103 rfl hl (by decide) rfl (fun ls hl => ?_)
                  refine lv_iinc (v := nI (k_9 + 1)) (lv' := [(4, .int (nI (k_9 + 1))), (3, .int (s_9 ||| ((((m_at 3) >>> (((nI (Wd * k_9)) + kk) &&& 31)) &&& 1) <<< ((nI k_9) &&& 31)))), (0, .ref (ad 0)), (1, .int kk)]) hx hb dX7_reads_104 hl (k := 1) rfl (nI_add k_9 1) (by decide) rfl (fun ls hl => ?_)
                  refine lv_goto (tgt := 67) hx hb dX7_reads_107 (by decide) ?_
                  exact ih_9 (k_9 + 1) (s_9 ||| ((((m_at 3) >>> (((nI (Wd * k_9)) + kk) &&& 31)) &&& 1) <<< ((nI k_9) &&& 31))) hlt_9 (by omega) (zf_s hst_9 (by rw [mf_reads_B67])) H locs hP hD hS ls (lv_sub hl [0, 1, 2, 3] rfl)
            exact hlp_9 (R + 1) 0 0 (Nat.zero_le _) (by omega) rfl H locs hP hD hS ls (lv_sub hl [0, 1, 2, 3] rfl)
          · refine lv_aload_n hx hb dX7_reads_36 rfl (lv_at hl 0 rfl) ?_
            refine lv_iconst (v := 1) hx hb dX7_reads_37 (by decide) ?_
            refine zr_muV (F := ()) (ff := fun _ => True) (rr := fun _ => some (.int (-1))) (w1 := fun _ => (mW G ad 1 m_top m_bottom m_taped m_size m_token m_from m_end m_value m_faultKind m_faultPlace m_faults m_seen m_depth m_counted m_lead m_round m_tried m_triedMany m_drawn m_ranSteps m_isTold m_marks m_at m_names m_sort m_trayMany m_trays m_tape m_text m_opened m_beside m_then m_ways m_further m_canBe m_loops m_ran m_told0)) ⟨hx, hb, hml, hown, hts⟩ (mt_mf_refuse l G ad m_status m_top m_bottom m_taped m_size m_token m_from m_end m_value m_faultKind m_faultPlace m_faults m_seen m_depth m_counted m_lead m_round m_tried m_triedMany m_drawn m_ranSteps m_isTold m_marks m_at m_names m_sort m_trayMany m_trays m_tape m_text m_opened m_beside m_then m_ways m_further m_canBe m_loops m_ran m_told0 1 H.size) (cwV 1 hts (lw_V q1666 q1668 qs66 q144 q1669) rfl rfl rfl hd_X7_refuse ⟨(Nat.le_of_ble_eq_true rfl), (Nat.le_of_ble_eq_true rfl)⟩) hP hD hS hA hK hE 0 7 rfl rfl rfl hl.1 rfl (Nat.le_of_ble_eq_true rfl) dX7_reads_38 ⟨Nat.le_refl _, Nat.le_refl _⟩ (fun _ _ _ H locs hP hD hS _ => ?_)
            refine W.eq (g2 := F0 m 41 ls [.int (-1)]) rfl ?_
            have e_ : mf_reads m_at Wd R kk what = ((-1), 1) := by rw [mf_reads, if_neg c_1, if_neg c_3, if_neg c_5, if_neg c_7, if_neg c_8]
            exact zr_mi hx hb hr hlocks hP hD hS dX7_reads_41 (by rw [e_])  (by rw [e_]) trivial
        · refine lv_aload_n hx hb dX7_reads_18 rfl (lv_at hl 0 rfl) ?_
          refine va_get (D := G.1) (ci := 7) (v := .ref (ad 1)) (C := RX7) (T := TX7) (N := 39) hx hb hts in_X7 hown hK.1 hP 0 rfl rfl 0 (Nat.le_of_ble_eq_true rfl) (hts _ q1467) (fun _ h => h) rfl dX7_reads_19 ?_
          refine lv_iconst (v := 1) hx hb dX7_reads_22 (by decide) ?_
          refine zr_iald 1 (v := nI R) hx hb hK hP 1 rfl rfl (Nat.le_of_ble_eq_true rfl) rfl (by decide) (mOK_r hG) dX7_reads_23 ?_
          refine lv_goto (tgt := 33) hx hb dX7_reads_24 (by decide) ?_
          refine lv_icmp_lt (tgt := 42) hx hb dX7_reads_33 (by decide) (fun c_12 => ?_) (fun c_12 => ?_)
          · refine lv_iload_n hx hb dX7_reads_42 rfl (lv_at hl 2 rfl) ?_
            refine lv_if_ne (tgt := 62) hx hb dX7_reads_43 (by decide) (fun z => absurd c_7 z) (fun _ => ?_)
            refine lv_aload_n hx hb dX7_reads_46 rfl (lv_at hl 0 rfl) ?_
            refine lv_aload_n hx hb dX7_reads_47 rfl (lv_at hl 0 rfl) ?_
            refine lv_aload_n hx hb dX7_reads_48 rfl (lv_at hl 0 rfl) ?_
            refine va_get (D := G.1) (ci := 7) (v := .ref (ad 1)) (C := RX7) (T := TX7) (N := 39) hx hb hts in_X7 hown hK.1 hP 0 rfl rfl 0 (Nat.le_of_ble_eq_true rfl) (hts _ q1467) (fun _ h => h) rfl dX7_reads_49 ?_
            refine lv_iconst (v := 3) hx hb dX7_reads_52 (by decide) ?_
            refine zr_iald 3 (v := m_at 3) hx hb hK hP 1 rfl rfl (Nat.le_of_ble_eq_true rfl) rfl (by decide) rfl dX7_reads_53 ?_
            refine lv_iload_n hx hb dX7_reads_54 rfl (lv_at hl 1 rfl) ?_
            refine zr_obV ⟨hx, hb, hml, hown, hts⟩ (mt_mf_rowOf l G ad m_status m_top m_bottom m_taped m_size m_token m_from m_end m_value m_faultKind m_faultPlace m_faults m_seen m_depth m_counted m_lead m_round m_tried m_triedMany m_drawn m_ranSteps m_isTold m_marks m_at m_names m_sort m_trayMany m_trays m_tape m_text m_opened m_beside m_then m_ways m_further m_canBe m_loops m_ran m_told0 Wd R nr nc (m_at 3) kk hG) (cwV 2 hts (lw_V q1868 q1870 qs103 q144 q1871) rfl rfl rfl hd_X7_rowOf ⟨(Nat.le_of_ble_eq_true rfl), (Nat.le_of_ble_eq_true rfl)⟩) hP hK (zE_o hE hS) 0 7 rfl rfl rfl hl.1 rfl (Nat.le_of_ble_eq_true rfl) dX7_reads_55 ⟨Nat.le_refl _, Nat.le_refl _⟩ ?_
            refine zr_muV (F := ()) (ff := fun _ => True) (rr := fun _ => some (.int (mf_rowOf Wd (m_at 3) kk))) (w1 := fun _ => (mW G ad 0 m_top m_bottom m_taped m_size m_token m_from m_end m_value m_faultKind m_faultPlace m_faults m_seen m_depth m_counted m_lead m_round m_tried m_triedMany m_drawn m_ranSteps m_isTold m_marks m_at m_names m_sort m_trayMany m_trays m_tape m_text m_opened m_beside m_then m_ways m_further m_canBe m_loops m_ran m_told0)) ⟨hx, hb, hml, hown, hts⟩ (mt_mf_gives l G ad m_status m_top m_bottom m_taped m_size m_token m_from m_end m_value m_faultKind m_faultPlace m_faults m_seen m_depth m_counted m_lead m_round m_tried m_triedMany m_drawn m_ranSteps m_isTold m_marks m_at m_names m_sort m_trayMany m_trays m_tape m_text m_opened m_beside m_then m_ways m_further m_canBe m_loops m_ran m_told0 (mf_rowOf Wd (m_at 3) kk) H.size) (cwV 1 hts (lw_V q1751 q1753 qs85 q144 q1754) rfl rfl rfl hd_X7_gives ⟨(Nat.le_of_ble_eq_true rfl), (Nat.le_of_ble_eq_true rfl)⟩) hP hD hS hA hK hE 0 7 rfl rfl rfl hl.1 rfl (Nat.le_of_ble_eq_true rfl) dX7_reads_58 ⟨Nat.le_refl _, Nat.le_refl _⟩ (fun _ _ _ H locs hP hD hS _ => ?_)
            refine W.eq (g2 := F0 m 61 ls [.int (mf_rowOf Wd (m_at 3) kk)]) rfl ?_
            have e_ : mf_reads m_at Wd R kk what = (mf_rowOf Wd (m_at 3) kk, 0) := by rw [mf_reads, if_neg c_1, if_neg c_3, if_neg c_5, if_pos c_7, if_pos c_12]
            exact zr_mi hx hb hr hlocks hP hD hS dX7_reads_61 (by rw [e_])  (by rw [e_]) trivial
          · refine lv_aload_n hx hb dX7_reads_36 rfl (lv_at hl 0 rfl) ?_
            refine lv_iconst (v := 1) hx hb dX7_reads_37 (by decide) ?_
            refine zr_muV (F := ()) (ff := fun _ => True) (rr := fun _ => some (.int (-1))) (w1 := fun _ => (mW G ad 1 m_top m_bottom m_taped m_size m_token m_from m_end m_value m_faultKind m_faultPlace m_faults m_seen m_depth m_counted m_lead m_round m_tried m_triedMany m_drawn m_ranSteps m_isTold m_marks m_at m_names m_sort m_trayMany m_trays m_tape m_text m_opened m_beside m_then m_ways m_further m_canBe m_loops m_ran m_told0)) ⟨hx, hb, hml, hown, hts⟩ (mt_mf_refuse l G ad m_status m_top m_bottom m_taped m_size m_token m_from m_end m_value m_faultKind m_faultPlace m_faults m_seen m_depth m_counted m_lead m_round m_tried m_triedMany m_drawn m_ranSteps m_isTold m_marks m_at m_names m_sort m_trayMany m_trays m_tape m_text m_opened m_beside m_then m_ways m_further m_canBe m_loops m_ran m_told0 1 H.size) (cwV 1 hts (lw_V q1666 q1668 qs66 q144 q1669) rfl rfl rfl hd_X7_refuse ⟨(Nat.le_of_ble_eq_true rfl), (Nat.le_of_ble_eq_true rfl)⟩) hP hD hS hA hK hE 0 7 rfl rfl rfl hl.1 rfl (Nat.le_of_ble_eq_true rfl) dX7_reads_38 ⟨Nat.le_refl _, Nat.le_refl _⟩ (fun _ _ _ H locs hP hD hS _ => ?_)
            refine W.eq (g2 := F0 m 41 ls [.int (-1)]) rfl ?_
            have e_ : mf_reads m_at Wd R kk what = ((-1), 1) := by rw [mf_reads, if_neg c_1, if_neg c_3, if_neg c_5, if_pos c_7, if_neg c_12]
            exact zr_mi hx hb hr hlocks hP hD hS dX7_reads_41 (by rw [e_])  (by rw [e_]) trivial
def mf_mirror_B29 (m_at : Nat → Int32) (Wd : Nat) (k_1 : Nat) (k_2 : Nat) (s_2 : Bool) : Bool :=
  (if s_2 = true then
    (if (((mf_rowOf Wd (m_at 3) (nI k_1)) >>> ((nI k_2) &&& 31)) &&& 1) = (((mf_rowOf Wd (m_at 3) (nI k_1)) >>> ((nI ((Wd - 1) - k_2)) &&& 31)) &&& 1) then
      true
    else
      false)
  else
    false)
def mf_mirror_L29 (m_at : Nat → Int32) (Wd : Nat) (k_1 : Nat) (s_2 : Bool) : Bool := zf (mf_mirror_B29 m_at Wd k_1) s_2 Wd
def mf_mirror_B4 (m_at : Nat → Int32) (Wd : Nat) (R : Nat) (k_1 : Nat) (s_1 : Bool) : Bool :=
  zlet (mf_mirror_L29 m_at Wd k_1 s_1) (fun s_2 =>
  s_2)
def mf_mirror_L4 (m_at : Nat → Int32) (Wd : Nat) (R : Nat) (s_1 : Bool) : Bool := zf (mf_mirror_B4 m_at Wd R) s_1 R
def mf_mirror (m_at : Nat → Int32) (Wd : Nat) (R : Nat) : Int32 × Int32 :=
  zlet (mf_mirror_L4 m_at Wd R true) (fun s_1 =>
  (if s_1 = true then
    (1, 0)
  else
    (0, 0)))
theorem hd_X7_mirror : yX7_mirror.cls = RX7 ∧ yX7_mirror.cls ≠ "java/lang/invoke/MethodHandle" ∧ yX7_mirror.cls ≠ "java/lang/invoke/VarHandle" ∧ (parseMethodDescriptor yX7_mirror.desc).map (fun d => d.parameters.length) = some 0 := by decide +kernel
set_option maxHeartbeats 4000000 in
set_option maxRecDepth 100000 in
theorem mt_mf_mirror (l : Launch) (G : zG) (ad : Nat → Nat) (m_status : Int32) (m_top : Int64) (m_bottom : Int64) (m_taped : Int32) (m_size : Int32) (m_token : Int32) (m_from : Int32) (m_end : Int32) (m_value : Int32) (m_faultKind : Int32) (m_faultPlace : Int32) (m_faults : Int32) (m_seen : Int32) (m_depth : Int32) (m_counted : Int32) (m_lead : Int32) (m_round : Int32) (m_tried : Int32) (m_triedMany : Int32) (m_drawn : Int32) (m_ranSteps : Int32) (m_isTold : Bool) (m_marks : Int32) (m_at : Nat → Int32) (m_names : Nat → Int64) (m_sort : Nat → Int32) (m_trayMany : Nat → Int32) (m_trays : Nat → Int64) (m_tape : Nat → Int32) (m_text : Nat → Int32) (m_opened : Nat → Int32) (m_beside : Nat → Int32) (m_then : Nat → Int32) (m_ways : Nat → Int64) (m_further : Nat → Int64) (m_canBe : Nat → Int32) (m_loops : Nat → Int32) (m_ran : Nat → Int32) (m_told0 : Nat → Int32) (Wd : Nat) (R : Nat) (nr : Nat) (nc : Nat) (hG : mOK m_at Wd R nr nc) (sz : Nat) : Met l yX7_mirror (ws_ yX7_mirror cX7_mirror 5 (some .int)) (zR 2 0 0) (zPm G sz [.ref (ad 0)] (mW G ad m_status m_top m_bottom m_taped m_size m_token m_from m_end m_value m_faultKind m_faultPlace m_faults m_seen m_depth m_counted m_lead m_round m_tried m_triedMany m_drawn m_ranSteps m_isTold m_marks m_at m_names m_sort m_trayMany m_trays m_tape m_text m_opened m_beside m_then m_ways m_further m_canBe m_loops m_ran m_told0)) (zQm G (True) (some (.int ((mf_mirror m_at Wd R).1))) (mW G ad ((mf_mirror m_at Wd R).2) m_top m_bottom m_taped m_size m_token m_from m_end m_value m_faultKind m_faultPlace m_faults m_seen m_depth m_counted m_lead m_round m_tried m_triedMany m_drawn m_ranSteps m_isTold m_marks m_at m_names m_sort m_trayMany m_trays m_tape m_text m_opened m_beside m_then m_ways m_further m_canBe m_loops m_ran m_told0) (va_A (mW G ad m_status m_top m_bottom m_taped m_size m_token m_from m_end m_value m_faultKind m_faultPlace m_faults m_seen m_depth m_counted m_lead m_round m_tried m_triedMany m_drawn m_ranSteps m_isTold m_marks m_at m_names m_sort m_trayMany m_trays m_tape m_text m_opened m_beside m_then m_ways m_further m_canBe m_loops m_ran m_told0) sz)) 0 0 (va_A (mW G ad m_status m_top m_bottom m_taped m_size m_token m_from m_end m_value m_faultKind m_faultPlace m_faults m_seen m_depth m_counted m_lead m_round m_tried m_triedMany m_drawn m_ranSteps m_isTold m_marks m_at m_names m_sort m_trayMany m_trays m_tape m_text m_opened m_beside m_then m_ways m_further m_canBe m_loops m_ran m_told0) sz) := by
  refine zr_entM (by decide) (Nat.le_of_ble_eq_true rfl) ?_
  intro p e s m below meth c ⟨hx, hb, hr, hml, hown, hts, hlocks, hnm⟩ ls hl hP hK A hE hA hD hS
  have hown : s.vm.findClass RX7 = some m.cls := hown
  have hl : lv_has ls 5 [(0, .ref (ad 0))] := hl
  obtain ⟨H, hH⟩ : ∃ H, H = s.heap := ⟨_, rfl⟩
  obtain ⟨locs, hlo⟩ : ∃ L : List Loc, L = [] := ⟨_, rfl⟩
  rw [← hH] at hP
  have hS : va_S A s.heap H locs := by rw [hH, hlo]; exact va_S.rf
  have hgo : W p l e (zR 2 0 0) s m ([.ref (ad 0)] : List Value).toArray below meth c H locs 0 0 (MQ below (zQm G (True) (some (.int ((mf_mirror m_at Wd R).1))) (mW G ad ((mf_mirror m_at Wd R).2) m_top m_bottom m_taped m_size m_token m_from m_end m_value m_faultKind m_faultPlace m_faults m_seen m_depth m_counted m_lead m_round m_tried m_triedMany m_drawn m_ranSteps m_isTold m_marks m_at m_names m_sort m_trayMany m_trays m_tape m_text m_opened m_beside m_then m_ways m_further m_canBe m_loops m_ran m_told0) A) ([.ref (ad 0)] : List Value).toArray s 0 0 A) (F0 m 0 ls []) := ?_
  · rw [hH, hlo] at hgo; exact hgo
  clear hH hlo
  have hWR := mOK_WR hG
  have hW0 := mOK_W0 hG
  have hW5 := mOK_W5 hG
  have hR0 := mOK_R0 hG
  have hR6 := mOK_R6 hG
  have hn4 := mOK_n4 hG
  have hc6 := mOK_c6 hG
  refine lv_iconst (v := 1) hx hb dX7_mirror_0 (by decide) ?_
  refine lv_istore_n (lv' := [(1, .int 1), (0, .ref (ad 0))]) hx hb dX7_mirror_1 rfl hl (by decide) rfl (fun ls hl => ?_)
  refine lv_iconst (v := 0) hx hb dX7_mirror_2 (by decide) ?_
  refine lv_istore_n (lv' := [(2, .int 0), (1, .int 1), (0, .ref (ad 0))]) hx hb dX7_mirror_3 rfl hl (by decide) rfl (fun ls hl => ?_)
  have hlp_1 : ∀ (n k_1 : Nat) (s_1 : Bool), k_1 ≤ R → R < k_1 + n → zf (mf_mirror_B4 m_at Wd R) true k_1 = s_1 → ∀ (H : Heap) (locs : List Loc), va_P G.1 zcl (mW G ad m_status m_top m_bottom m_taped m_size m_token m_from m_end m_value m_faultKind m_faultPlace m_faults m_seen m_depth m_counted m_lead m_round m_tried m_triedMany m_drawn m_ranSteps m_isTold m_marks m_at m_names m_sort m_trayMany m_trays m_tape m_text m_opened m_beside m_then m_ways m_further m_canBe m_loops m_ran m_told0) H → va_D A (mW G ad m_status m_top m_bottom m_taped m_size m_token m_from m_end m_value m_faultKind m_faultPlace m_faults m_seen m_depth m_counted m_lead m_round m_tried m_triedMany m_drawn m_ranSteps m_isTold m_marks m_at m_names m_sort m_trayMany m_trays m_tape m_text m_opened m_beside m_then m_ways m_further m_canBe m_loops m_ran m_told0) → va_S A s.heap H locs → ∀ ls : Array Slot, lv_has ls 5 [(2, .int (nI k_1)), (1, .int (zb s_1)), (0, .ref (ad 0))] → W p l e (zR 2 0 0) s m ([.ref (ad 0)] : List Value).toArray below meth c H locs 0 0 (MQ below (zQm G (True) (some (.int ((mf_mirror m_at Wd R).1))) (mW G ad ((mf_mirror m_at Wd R).2) m_top m_bottom m_taped m_size m_token m_from m_end m_value m_faultKind m_faultPlace m_faults m_seen m_depth m_counted m_lead m_round m_tried m_triedMany m_drawn m_ranSteps m_isTold m_marks m_at m_names m_sort m_trayMany m_trays m_tape m_text m_opened m_beside m_then m_ways m_further m_canBe m_loops m_ran m_told0) A) ([.ref (ad 0)] : List Value).toArray s 0 0 A) (F0 m 4 ls []) := by
    intro n
    induction n with
    | zero => intro k_1 s_1 h1 h2; exact absurd h2 (by omega)
    | succ n ih_1 =>
      intro k_1 s_1 hk_1 hn_1 hst_1 H locs hP hD hS ls hl
      refine lv_iload_n hx hb dX7_mirror_4 rfl (lv_at hl 0 rfl) ?_
      refine lv_aload_n hx hb dX7_mirror_5 rfl (lv_at hl 2 rfl) ?_
      refine va_get (D := G.1) (ci := 7) (v := .ref (ad 1)) (C := RX7) (T := TX7) (N := 39) hx hb hts in_X7 hown hK.1 hP 0 rfl rfl 0 (Nat.le_of_ble_eq_true rfl) (hts _ q1467) (fun _ h => h) rfl dX7_mirror_6 ?_
      refine lv_iconst (v := 1) hx hb dX7_mirror_9 (by decide) ?_
      refine zr_iald 1 (v := nI R) hx hb hK hP 1 rfl rfl (Nat.le_of_ble_eq_true rfl) rfl (by decide) (mOK_r hG) dX7_mirror_10 ?_
      refine zr_ge k_1 R (by omega) (by omega) (tgt := 86) hx hb dX7_mirror_11 (by decide) (fun c_1 => ?_) (fun c_1 => ?_)
      · have ek_1 : k_1 = R := Nat.le_antisymm hk_1 c_1
        have hs_1 : mf_mirror_L4 m_at Wd R true = s_1 := by rw [ek_1] at hst_1; exact hst_1
        have hl := lv_sub hl (l' := _) [1, 2] rfl
        refine lv_aload_n hx hb dX7_mirror_86 rfl (lv_at hl 1 rfl) ?_
        refine lv_iload_n hx hb dX7_mirror_87 rfl (lv_at hl 0 rfl) ?_
        refine zr_eqB s_1 (tgt := 95) hx hb dX7_mirror_88 (by decide) (fun c_5 => ?_) (fun c_5 => ?_)
        · refine lv_iconst (v := 0) hx hb dX7_mirror_95 (by decide) ?_
          refine zr_muV (F := ()) (ff := fun _ => True) (rr := fun _ => some (.int 0)) (w1 := fun _ => (mW G ad 0 m_top m_bottom m_taped m_size m_token m_from m_end m_value m_faultKind m_faultPlace m_faults m_seen m_depth m_counted m_lead m_round m_tried m_triedMany m_drawn m_ranSteps m_isTold m_marks m_at m_names m_sort m_trayMany m_trays m_tape m_text m_opened m_beside m_then m_ways m_further m_canBe m_loops m_ran m_told0)) ⟨hx, hb, hml, hown, hts⟩ (mt_mf_gives l G ad m_status m_top m_bottom m_taped m_size m_token m_from m_end m_value m_faultKind m_faultPlace m_faults m_seen m_depth m_counted m_lead m_round m_tried m_triedMany m_drawn m_ranSteps m_isTold m_marks m_at m_names m_sort m_trayMany m_trays m_tape m_text m_opened m_beside m_then m_ways m_further m_canBe m_loops m_ran m_told0 0 H.size) (cwV 1 hts (lw_V q1751 q1753 qs85 q144 q1754) rfl rfl rfl hd_X7_gives ⟨(Nat.le_of_ble_eq_true rfl), (Nat.le_of_ble_eq_true rfl)⟩) hP hD hS hA hK hE 0 7 rfl rfl rfl hl.1 rfl (Nat.le_of_ble_eq_true rfl) dX7_mirror_96 ⟨Nat.le_refl _, Nat.le_refl _⟩ (fun _ _ _ H locs hP hD hS _ => ?_)
          refine W.eq (g2 := F0 m 99 ls [.int 0]) rfl ?_
          have e_ : mf_mirror m_at Wd R = (0, 0) := by rw [mf_mirror, zlet_eq hs_1, if_neg c_5]
          exact zr_mi hx hb hr hlocks hP hD hS dX7_mirror_99 (by rw [e_])  (by rw [e_]) trivial
        · refine lv_iconst (v := 1) hx hb dX7_mirror_91 (by decide) ?_
          refine lv_goto (tgt := 96) hx hb dX7_mirror_92 (by decide) ?_
          refine zr_muV (F := ()) (ff := fun _ => True) (rr := fun _ => some (.int 1)) (w1 := fun _ => (mW G ad 0 m_top m_bottom m_taped m_size m_token m_from m_end m_value m_faultKind m_faultPlace m_faults m_seen m_depth m_counted m_lead m_round m_tried m_triedMany m_drawn m_ranSteps m_isTold m_marks m_at m_names m_sort m_trayMany m_trays m_tape m_text m_opened m_beside m_then m_ways m_further m_canBe m_loops m_ran m_told0)) ⟨hx, hb, hml, hown, hts⟩ (mt_mf_gives l G ad m_status m_top m_bottom m_taped m_size m_token m_from m_end m_value m_faultKind m_faultPlace m_faults m_seen m_depth m_counted m_lead m_round m_tried m_triedMany m_drawn m_ranSteps m_isTold m_marks m_at m_names m_sort m_trayMany m_trays m_tape m_text m_opened m_beside m_then m_ways m_further m_canBe m_loops m_ran m_told0 1 H.size) (cwV 1 hts (lw_V q1751 q1753 qs85 q144 q1754) rfl rfl rfl hd_X7_gives ⟨(Nat.le_of_ble_eq_true rfl), (Nat.le_of_ble_eq_true rfl)⟩) hP hD hS hA hK hE 0 7 rfl rfl rfl hl.1 rfl (Nat.le_of_ble_eq_true rfl) dX7_mirror_96 ⟨Nat.le_refl _, Nat.le_refl _⟩ (fun _ _ _ H locs hP hD hS _ => ?_)
          refine W.eq (g2 := F0 m 99 ls [.int 1]) rfl ?_
          have e_ : mf_mirror m_at Wd R = (1, 0) := by rw [mf_mirror, zlet_eq hs_1, if_pos c_5]
          exact zr_mi hx hb hr hlocks hP hD hS dX7_mirror_99 (by rw [e_])  (by rw [e_]) trivial
      · have hlt_1 : k_1 < R := Nat.lt_of_not_le c_1
        refine lv_aload_n hx hb dX7_mirror_14 rfl (lv_at hl 2 rfl) ?_
        refine lv_aload_n hx hb dX7_mirror_15 rfl (lv_at hl 2 rfl) ?_
        refine va_get (D := G.1) (ci := 7) (v := .ref (ad 1)) (C := RX7) (T := TX7) (N := 39) hx hb hts in_X7 hown hK.1 hP 0 rfl rfl 0 (Nat.le_of_ble_eq_true rfl) (hts _ q1467) (fun _ h => h) rfl dX7_mirror_16 ?_
        refine lv_iconst (v := 3) hx hb dX7_mirror_19 (by decide) ?_
        refine zr_iald 3 (v := m_at 3) hx hb hK hP 1 rfl rfl (Nat.le_of_ble_eq_true rfl) rfl (by decide) rfl dX7_mirror_20 ?_
        refine lv_iload_n hx hb dX7_mirror_21 rfl (lv_at hl 0 rfl) ?_
        refine zr_obV ⟨hx, hb, hml, hown, hts⟩ (mt_mf_rowOf l G ad m_status m_top m_bottom m_taped m_size m_token m_from m_end m_value m_faultKind m_faultPlace m_faults m_seen m_depth m_counted m_lead m_round m_tried m_triedMany m_drawn m_ranSteps m_isTold m_marks m_at m_names m_sort m_trayMany m_trays m_tape m_text m_opened m_beside m_then m_ways m_further m_canBe m_loops m_ran m_told0 Wd R nr nc (m_at 3) (nI k_1) hG) (cwV 2 hts (lw_V q1868 q1870 qs103 q144 q1871) rfl rfl rfl hd_X7_rowOf ⟨(Nat.le_of_ble_eq_true rfl), (Nat.le_of_ble_eq_true rfl)⟩) hP hK (zE_o hE hS) 0 7 rfl rfl rfl hl.1 rfl (Nat.le_of_ble_eq_true rfl) dX7_mirror_22 ⟨Nat.le_refl _, Nat.le_refl _⟩ ?_
        refine lv_istore_n (lv' := [(3, .int (mf_rowOf Wd (m_at 3) (nI k_1))), (2, .int (nI k_1)), (1, .int (zb s_1)), (0, .ref (ad 0))]) hx hb dX7_mirror_25 rfl hl (by decide) rfl (fun ls hl => ?_)
        refine lv_iconst (v := 0) hx hb dX7_mirror_26 (by decide) ?_
        refine lv_istore (lv' := [(4, .int 0), (3, .int (mf_rowOf Wd (m_at 3) (nI k_1))), (2, .int (nI k_1)), (1, .int (zb s_1)), (0, .ref (ad 0))]) hx hb dX7_mirror_27 hl (by decide) rfl (fun ls hl => ?_)
        have hlp_2 : ∀ (n k_2 : Nat) (s_2 : Bool), k_2 ≤ Wd → Wd < k_2 + n → zf (mf_mirror_B29 m_at Wd k_1) s_1 k_2 = s_2 → ∀ (H : Heap) (locs : List Loc), va_P G.1 zcl (mW G ad m_status m_top m_bottom m_taped m_size m_token m_from m_end m_value m_faultKind m_faultPlace m_faults m_seen m_depth m_counted m_lead m_round m_tried m_triedMany m_drawn m_ranSteps m_isTold m_marks m_at m_names m_sort m_trayMany m_trays m_tape m_text m_opened m_beside m_then m_ways m_further m_canBe m_loops m_ran m_told0) H → va_D A (mW G ad m_status m_top m_bottom m_taped m_size m_token m_from m_end m_value m_faultKind m_faultPlace m_faults m_seen m_depth m_counted m_lead m_round m_tried m_triedMany m_drawn m_ranSteps m_isTold m_marks m_at m_names m_sort m_trayMany m_trays m_tape m_text m_opened m_beside m_then m_ways m_further m_canBe m_loops m_ran m_told0) → va_S A s.heap H locs → ∀ ls : Array Slot, lv_has ls 5 [(4, .int (nI k_2)), (3, .int (mf_rowOf Wd (m_at 3) (nI k_1))), (2, .int (nI k_1)), (1, .int (zb s_2)), (0, .ref (ad 0))] → W p l e (zR 2 0 0) s m ([.ref (ad 0)] : List Value).toArray below meth c H locs 0 0 (MQ below (zQm G (True) (some (.int ((mf_mirror m_at Wd R).1))) (mW G ad ((mf_mirror m_at Wd R).2) m_top m_bottom m_taped m_size m_token m_from m_end m_value m_faultKind m_faultPlace m_faults m_seen m_depth m_counted m_lead m_round m_tried m_triedMany m_drawn m_ranSteps m_isTold m_marks m_at m_names m_sort m_trayMany m_trays m_tape m_text m_opened m_beside m_then m_ways m_further m_canBe m_loops m_ran m_told0) A) ([.ref (ad 0)] : List Value).toArray s 0 0 A) (F0 m 29 ls []) := by
          intro n
          induction n with
          | zero => intro k_2 s_2 h1 h2; exact absurd h2 (by omega)
          | succ n ih_2 =>
            intro k_2 s_2 hk_2 hn_2 hst_2 H locs hP hD hS ls hl
            refine lv_iload hx hb dX7_mirror_29 (lv_at hl 0 rfl) ?_
            refine lv_aload_n hx hb dX7_mirror_31 rfl (lv_at hl 4 rfl) ?_
            refine va_get (D := G.1) (ci := 7) (v := .ref (ad 1)) (C := RX7) (T := TX7) (N := 39) hx hb hts in_X7 hown hK.1 hP 0 rfl rfl 0 (Nat.le_of_ble_eq_true rfl) (hts _ q1467) (fun _ h => h) rfl dX7_mirror_32 ?_
            refine lv_iconst (v := 0) hx hb dX7_mirror_35 (by decide) ?_
            refine zr_iald 0 (v := nI Wd) hx hb hK hP 1 rfl rfl (Nat.le_of_ble_eq_true rfl) rfl (by decide) (mOK_w hG) dX7_mirror_36 ?_
            refine zr_ge k_2 Wd (by omega) (by omega) (tgt := 80) hx hb dX7_mirror_37 (by decide) (fun c_2 => ?_) (fun c_2 => ?_)
            · have ek_2 : k_2 = Wd := Nat.le_antisymm hk_2 c_2
              have hs_2 : mf_mirror_L29 m_at Wd k_1 s_1 = s_2 := by rw [ek_2] at hst_2; exact hst_2
              have hl := lv_sub hl (l' := _) [1, 2, 3, 4] rfl
              refine lv_iinc (v := nI (k_1 + 1)) (lv' := [(2, .int (nI (k_1 + 1))), (3, .int (mf_rowOf Wd (m_at 3) (nI k_1))), (1, .int (zb s_2)), (0, .ref (ad 0))]) hx hb dX7_mirror_80 hl (k := 1) rfl (nI_add k_1 1) (by decide) rfl (fun ls hl => ?_)
              refine lv_goto (tgt := 4) hx hb dX7_mirror_83 (by decide) ?_
              exact ih_1 (k_1 + 1) s_2 hlt_1 (by omega) (zf_s hst_1 (by rw [mf_mirror_B4, zlet_eq hs_2])) H locs hP hD hS ls (lv_sub hl [0, 2, 3] rfl)
            · have hlt_2 : k_2 < Wd := Nat.lt_of_not_le c_2
              refine lv_iload_n hx hb dX7_mirror_40 rfl (lv_at hl 3 rfl) ?_
              refine zr_eqB s_2 (tgt := 72) hx hb dX7_mirror_41 (by decide) (fun c_3 => ?_) (fun c_3 => ?_)
              · refine lv_iconst (v := 0) hx hb dX7_mirror_72 (by decide) ?_
                refine lv_istore_n (lv' := [(1, .int 0), (4, .int (nI k_2)), (3, .int (mf_rowOf Wd (m_at 3) (nI k_1))), (2, .int (nI k_1)), (0, .ref (ad 0))]) hx hb dX7_mirror_73 rfl hl (by decide) rfl (fun ls hl => ?_)
                refine lv_iinc (v := nI (k_2 + 1)) (lv' := [(4, .int (nI (k_2 + 1))), (1, .int 0), (3, .int (mf_rowOf Wd (m_at 3) (nI k_1))), (2, .int (nI k_1)), (0, .ref (ad 0))]) hx hb dX7_mirror_74 hl (k := 1) rfl (nI_add k_2 1) (by decide) rfl (fun ls hl => ?_)
                refine lv_goto (tgt := 29) hx hb dX7_mirror_77 (by decide) ?_
                exact ih_2 (k_2 + 1) false hlt_2 (by omega) (zf_s hst_2 (by rw [mf_mirror_B29, if_neg c_3])) H locs hP hD hS ls (lv_sub hl [0, 2, 3, 1, 4] rfl)
              · refine lv_iload_n hx hb dX7_mirror_44 rfl (lv_at hl 1 rfl) ?_
                refine lv_iload hx hb dX7_mirror_45 (lv_at hl 0 rfl) ?_
                refine lv_ishr hx hb dX7_mirror_47 ?_
                refine lv_iconst (v := 1) hx hb dX7_mirror_48 (by decide) ?_
                refine lv_iand hx hb dX7_mirror_49 ?_
                refine lv_iload_n hx hb dX7_mirror_50 rfl (lv_at hl 1 rfl) ?_
                refine lv_aload_n hx hb dX7_mirror_51 rfl (lv_at hl 4 rfl) ?_
                refine va_get (D := G.1) (ci := 7) (v := .ref (ad 1)) (C := RX7) (T := TX7) (N := 39) hx hb hts in_X7 hown hK.1 hP 0 rfl rfl 0 (Nat.le_of_ble_eq_true rfl) (hts _ q1467) (fun _ h => h) rfl dX7_mirror_52 ?_
                refine lv_iconst (v := 0) hx hb dX7_mirror_55 (by decide) ?_
                refine zr_iald 0 (v := nI Wd) hx hb hK hP 1 rfl rfl (Nat.le_of_ble_eq_true rfl) rfl (by decide) (mOK_w hG) dX7_mirror_56 ?_
                refine lv_iconst (v := 1) hx hb dX7_mirror_57 (by decide) ?_
                refine zr_isubN Wd 1 (by omega) hx hb dX7_mirror_58 ?_
                refine lv_iload hx hb dX7_mirror_59 (lv_at hl 0 rfl) ?_
                refine zr_isubN (Wd - 1) k_2 (by omega) hx hb dX7_mirror_61 ?_
                refine lv_ishr hx hb dX7_mirror_62 ?_
                refine lv_iconst (v := 1) hx hb dX7_mirror_63 (by decide) ?_
                refine lv_iand hx hb dX7_mirror_64 ?_
                refine lv_icmp_ne (tgt := 72) hx hb dX7_mirror_65 (by decide) (fun c_4 => ?_) (fun c_4 => ?_)
                · refine lv_iconst (v := 0) hx hb dX7_mirror_72 (by decide) ?_
                  refine lv_istore_n (lv' := [(1, .int 0), (4, .int (nI k_2)), (3, .int (mf_rowOf Wd (m_at 3) (nI k_1))), (2, .int (nI k_1)), (0, .ref (ad 0))]) hx hb dX7_mirror_73 rfl hl (by decide) rfl (fun ls hl => ?_)
                  refine lv_iinc (v := nI (k_2 + 1)) (lv' := [(4, .int (nI (k_2 + 1))), (1, .int 0), (3, .int (mf_rowOf Wd (m_at 3) (nI k_1))), (2, .int (nI k_1)), (0, .ref (ad 0))]) hx hb dX7_mirror_74 hl (k := 1) rfl (nI_add k_2 1) (by decide) rfl (fun ls hl => ?_)
                  refine lv_goto (tgt := 29) hx hb dX7_mirror_77 (by decide) ?_
                  exact ih_2 (k_2 + 1) false hlt_2 (by omega) (zf_s hst_2 (by rw [mf_mirror_B29, if_pos c_3, if_neg c_4])) H locs hP hD hS ls (lv_sub hl [0, 2, 3, 1, 4] rfl)
                · refine lv_iconst (v := 1) hx hb dX7_mirror_68 (by decide) ?_
                  refine lv_goto (tgt := 73) hx hb dX7_mirror_69 (by decide) ?_
                  refine lv_istore_n (lv' := [(1, .int 1), (4, .int (nI k_2)), (3, .int (mf_rowOf Wd (m_at 3) (nI k_1))), (2, .int (nI k_1)), (0, .ref (ad 0))]) hx hb dX7_mirror_73 rfl hl (by decide) rfl (fun ls hl => ?_)
                  refine lv_iinc (v := nI (k_2 + 1)) (lv' := [(4, .int (nI (k_2 + 1))), (1, .int 1), (3, .int (mf_rowOf Wd (m_at 3) (nI k_1))), (2, .int (nI k_1)), (0, .ref (ad 0))]) hx hb dX7_mirror_74 hl (k := 1) rfl (nI_add k_2 1) (by decide) rfl (fun ls hl => ?_)
                  refine lv_goto (tgt := 29) hx hb dX7_mirror_77 (by decide) ?_
                  exact ih_2 (k_2 + 1) true hlt_2 (by omega) (zf_s hst_2 (by rw [mf_mirror_B29, if_pos c_3, if_pos c_4])) H locs hP hD hS ls (lv_sub hl [0, 2, 3, 1, 4] rfl)
        exact hlp_2 (Wd + 1) 0 s_1 (Nat.zero_le _) (by omega) rfl H locs hP hD hS ls (lv_sub hl [0, 1, 2, 3, 4] rfl)
  exact hlp_1 (R + 1) 0 true (Nat.zero_le _) (by omega) rfl H locs hP hD hS ls (lv_sub hl [0, 1, 2] rfl)
def mf_heapOf_B23 (m_at : Nat → Int32) (m_beside : Nat → Int32) (Wd : Nat) (R : Nat) (k_3 : Nat) (s_3 : Int32) : Int32 :=
  (if ((s_3 >>> ((nI k_3) &&& 31)) &&& 1) = 1 then
    s_3 ||| ((m_beside k_3) &&& (m_at 3))
  else
    s_3)
def mf_heapOf_L23 (m_at : Nat → Int32) (m_beside : Nat → Int32) (Wd : Nat) (R : Nat) (s_3 : Int32) : Int32 := zf (mf_heapOf_B23 m_at m_beside Wd R) s_3 (Wd * R)
def mf_heapOf_B13 (m_at : Nat → Int32) (m_beside : Nat → Int32) (Wd : Nat) (R : Nat) (kk : Nat) (s_1 : Int32 × Int32) : (Int32 × Int32) ⊕ (Int32 × Int32) :=
  (if s_1.2 = s_1.1 then
    .inr (s_1.1, s_1.2)
  else
    zlet (mf_heapOf_L23 m_at m_beside Wd R s_1.2) (fun s_3 =>
    .inl (s_1.2, s_3)))
def mf_heapOf_L13 (m_at : Nat → Int32) (m_beside : Nat → Int32) (Wd : Nat) (R : Nat) (kk : Nat) (s_1 : Int32 × Int32) : Int32 × Int32 := zw (mf_heapOf_B13 m_at m_beside Wd R kk) (s_1) ((32 - zpc s_1.2 + (if s_1.2 = s_1.1 then 0 else 1)) + 1) s_1
def mf_heapOf (m_at : Nat → Int32) (m_beside : Nat → Int32) (Wd : Nat) (R : Nat) (kk : Nat) : Int32 :=
  zlet (mf_heapOf_L13 m_at m_beside Wd R kk (0, (m_at 3) &&& ((1 : Int32) <<< ((nI kk) &&& 31)))) (fun t_1 =>
  t_1.2)
theorem hd_X7_heapOf : yX7_heapOf.cls = RX7 ∧ yX7_heapOf.cls ≠ "java/lang/invoke/MethodHandle" ∧ yX7_heapOf.cls ≠ "java/lang/invoke/VarHandle" ∧ (parseMethodDescriptor yX7_heapOf.desc).map (fun d => d.parameters.length) = some 1 := by decide +kernel
set_option maxHeartbeats 4000000 in
set_option maxRecDepth 100000 in
theorem mt_mf_heapOf (l : Launch) (G : zG) (ad : Nat → Nat) (m_status : Int32) (m_top : Int64) (m_bottom : Int64) (m_taped : Int32) (m_size : Int32) (m_token : Int32) (m_from : Int32) (m_end : Int32) (m_value : Int32) (m_faultKind : Int32) (m_faultPlace : Int32) (m_faults : Int32) (m_seen : Int32) (m_depth : Int32) (m_counted : Int32) (m_lead : Int32) (m_round : Int32) (m_tried : Int32) (m_triedMany : Int32) (m_drawn : Int32) (m_ranSteps : Int32) (m_isTold : Bool) (m_marks : Int32) (m_at : Nat → Int32) (m_names : Nat → Int64) (m_sort : Nat → Int32) (m_trayMany : Nat → Int32) (m_trays : Nat → Int64) (m_tape : Nat → Int32) (m_text : Nat → Int32) (m_opened : Nat → Int32) (m_beside : Nat → Int32) (m_then : Nat → Int32) (m_ways : Nat → Int64) (m_further : Nat → Int64) (m_canBe : Nat → Int32) (m_loops : Nat → Int32) (m_ran : Nat → Int32) (m_told0 : Nat → Int32) (Wd : Nat) (R : Nat) (nr : Nat) (nc : Nat) (kk : Nat) (hG : mOK m_at Wd R nr nc) : Met l yX7_heapOf (ws_ yX7_heapOf cX7_heapOf 5 (some .int)) (zR 2 0 0) (zPo G [.ref (ad 0), .int (nI kk)] (mW G ad m_status m_top m_bottom m_taped m_size m_token m_from m_end m_value m_faultKind m_faultPlace m_faults m_seen m_depth m_counted m_lead m_round m_tried m_triedMany m_drawn m_ranSteps m_isTold m_marks m_at m_names m_sort m_trayMany m_trays m_tape m_text m_opened m_beside m_then m_ways m_further m_canBe m_loops m_ran m_told0)) (k2_QcV (.int (mf_heapOf m_at m_beside Wd R kk))) 0 0 (fun _ => False) := by
  refine zr_entO (by decide) (Nat.le_of_ble_eq_true rfl) ?_
  intro p e s m below meth c ⟨hx, hb, hr, hml, hown, hts, hlocks, hnm⟩ ls hl hP hK hE
  have hown : s.vm.findClass RX7 = some m.cls := hown
  have hl : lv_has ls 5 [(0, .ref (ad 0)), (1, .int (nI kk))] := hl
  have hWR := mOK_WR hG
  have hW0 := mOK_W0 hG
  have hW5 := mOK_W5 hG
  have hR0 := mOK_R0 hG
  have hR6 := mOK_R6 hG
  have hn4 := mOK_n4 hG
  have hc6 := mOK_c6 hG
  refine lv_aload_n hx hb dX7_heapOf_0 rfl (lv_at hl 0 rfl) ?_
  refine va_get (D := G.1) (ci := 7) (v := .ref (ad 1)) (C := RX7) (T := TX7) (N := 39) hx hb hts in_X7 hown hK.1 hP 0 rfl rfl 0 (Nat.le_of_ble_eq_true rfl) (hts _ q1467) (fun _ h => h) rfl dX7_heapOf_1 ?_
  refine lv_iconst (v := 3) hx hb dX7_heapOf_4 (by decide) ?_
  refine zr_iald 3 (v := m_at 3) hx hb hK hP 1 rfl rfl (Nat.le_of_ble_eq_true rfl) rfl (by decide) rfl dX7_heapOf_5 ?_
  refine lv_iconst (v := 1) hx hb dX7_heapOf_6 (by decide) ?_
  refine lv_iload_n hx hb dX7_heapOf_7 rfl (lv_at hl 1 rfl) ?_
  refine lv_ishl hx hb dX7_heapOf_8 ?_
  refine lv_iand hx hb dX7_heapOf_9 ?_
  refine lv_istore_n (lv' := [(2, .int ((m_at 3) &&& ((1 : Int32) <<< ((nI kk) &&& 31)))), (0, .ref (ad 0)), (1, .int (nI kk))]) hx hb dX7_heapOf_10 rfl hl (by decide) rfl (fun ls hl => ?_)
  refine lv_iconst (v := 0) hx hb dX7_heapOf_11 (by decide) ?_
  refine lv_istore_n (lv' := [(3, .int 0), (2, .int ((m_at 3) &&& ((1 : Int32) <<< ((nI kk) &&& 31)))), (0, .ref (ad 0)), (1, .int (nI kk))]) hx hb dX7_heapOf_12 rfl hl (by decide) rfl (fun ls hl => ?_)
  have hx_1 : ∀ t_1 : Int32 × Int32, mf_heapOf_L13 m_at m_beside Wd R kk (0, (m_at 3) &&& ((1 : Int32) <<< ((nI kk) &&& 31))) = t_1 → ∀ ls : Array Slot, lv_has ls 5 [(2, .int t_1.2)] → W p l e (zR 2 0 0) s m ([.ref (ad 0), .int (nI kk)] : List Value).toArray below meth c s.heap [] 0 0 (MQ below (k2_QcV (.int (mf_heapOf m_at m_beside Wd R kk))) ([.ref (ad 0), .int (nI kk)] : List Value).toArray s 0 0 (fun _ => False)) (F0 m 68 ls []) := by
    intro t_1 ht_1 ls hl
    refine lv_iload_n hx hb dX7_heapOf_68 rfl (lv_at hl 0 rfl) ?_
    have e_ : mf_heapOf m_at m_beside Wd R kk = t_1.2 := by rw [mf_heapOf, zlet_eq ht_1]
    exact zr_oi hx hb hr hlocks dX7_heapOf_69 (congrArg Value.int e_)
  have hlp_1 : ∀ (n : Nat) (s_1 : Int32 × Int32), 32 - zpc s_1.2 + (if s_1.2 = s_1.1 then 0 else 1) < n → zw (mf_heapOf_B13 m_at m_beside Wd R kk) (0, (m_at 3) &&& ((1 : Int32) <<< ((nI kk) &&& 31))) n s_1 = mf_heapOf_L13 m_at m_beside Wd R kk (0, (m_at 3) &&& ((1 : Int32) <<< ((nI kk) &&& 31))) → ∀ ls : Array Slot, lv_has ls 5 [(3, .int s_1.1), (2, .int s_1.2), (0, .ref (ad 0))] → W p l e (zR 2 0 0) s m ([.ref (ad 0), .int (nI kk)] : List Value).toArray below meth c s.heap [] 0 0 (MQ below (k2_QcV (.int (mf_heapOf m_at m_beside Wd R kk))) ([.ref (ad 0), .int (nI kk)] : List Value).toArray s 0 0 (fun _ => False)) (F0 m 13 ls []) := by
    intro n
    induction n with
    | zero => exact fun _ h => absurd h (Nat.not_lt_zero _)
    | succ n ih_1 =>
      intro s_1 hmu_1 hR_1 ls hl
      refine lv_iload_n hx hb dX7_heapOf_13 rfl (lv_at hl 1 rfl) ?_
      refine lv_iload_n hx hb dX7_heapOf_14 rfl (lv_at hl 0 rfl) ?_
      refine lv_icmp_eq (tgt := 68) hx hb dX7_heapOf_15 (by decide) (fun c_2 => ?_) (fun c_2 => ?_)
      · exact hx_1 (s_1.1, s_1.2) (hR_1.symm.trans (zw_r (by rw [mf_heapOf_B13, if_pos c_2]))) ls (lv_sub hl [1] rfl)
      · refine lv_iload_n hx hb dX7_heapOf_18 rfl (lv_at hl 1 rfl) ?_
        refine lv_istore_n (lv' := [(3, .int s_1.2), (2, .int s_1.2), (0, .ref (ad 0))]) hx hb dX7_heapOf_19 rfl hl (by decide) rfl (fun ls hl => ?_)
        refine lv_iconst (v := 0) hx hb dX7_heapOf_20 (by decide) ?_
        refine lv_istore (lv' := [(4, .int 0), (3, .int s_1.2), (2, .int s_1.2), (0, .ref (ad 0))]) hx hb dX7_heapOf_21 hl (by decide) rfl (fun ls hl => ?_)
        have hlp_3 : ∀ (n k_3 : Nat) (s_3 : Int32), k_3 ≤ Wd * R → Wd * R < k_3 + n → zf (mf_heapOf_B23 m_at m_beside Wd R) s_1.2 k_3 = s_3 → s_1.2 ||| s_3 = s_3 → ∀ ls : Array Slot, lv_has ls 5 [(4, .int (nI k_3)), (3, .int s_1.2), (2, .int s_3), (0, .ref (ad 0))] → W p l e (zR 2 0 0) s m ([.ref (ad 0), .int (nI kk)] : List Value).toArray below meth c s.heap [] 0 0 (MQ below (k2_QcV (.int (mf_heapOf m_at m_beside Wd R kk))) ([.ref (ad 0), .int (nI kk)] : List Value).toArray s 0 0 (fun _ => False)) (F0 m 23 ls []) := by
          intro n
          induction n with
          | zero => intro k_3 s_3 h1 h2; exact absurd h2 (by omega)
          | succ n ih_3 =>
            intro k_3 s_3 hk_3 hn_3 hst_3 hi2 ls hl
            refine lv_iload hx hb dX7_heapOf_23 (lv_at hl 0 rfl) ?_
            refine lv_aload_n hx hb dX7_heapOf_25 rfl (lv_at hl 3 rfl) ?_
            refine zr_obV ⟨hx, hb, hml, hown, hts⟩ (mt_mf_places l G ad m_status m_top m_bottom m_taped m_size m_token m_from m_end m_value m_faultKind m_faultPlace m_faults m_seen m_depth m_counted m_lead m_round m_tried m_triedMany m_drawn m_ranSteps m_isTold m_marks m_at m_names m_sort m_trayMany m_trays m_tape m_text m_opened m_beside m_then m_ways m_further m_canBe m_loops m_ran m_told0 Wd R nr nc hG) (cwV 0 hts (lw_V q1815 q1817 qs97 q144 q1818) rfl rfl rfl hd_X7_places ⟨(Nat.le_of_ble_eq_true rfl), (Nat.le_of_ble_eq_true rfl)⟩) hP hK hE 0 7 rfl rfl rfl hl.1 rfl (Nat.le_of_ble_eq_true rfl) dX7_heapOf_26 ⟨Nat.le_refl _, Nat.le_refl _⟩ ?_
            refine zr_ge k_3 (Wd * R) (by omega) (by omega) (tgt := 65) hx hb dX7_heapOf_29 (by decide) (fun c_3 => ?_) (fun c_3 => ?_)
            · have ek_3 : k_3 = Wd * R := Nat.le_antisymm hk_3 c_3
              have hs_3 : mf_heapOf_L23 m_at m_beside Wd R s_1.2 = s_3 := by rw [ek_3] at hst_3; exact hst_3
              have hl := lv_sub hl (l' := _) [1, 2, 3] rfl
              refine lv_goto (tgt := 13) hx hb dX7_heapOf_65 (by decide) ?_
              exact ih_1 (s_1.2, s_3) (heapOf_mu hmu_1 (by assumption) (by assumption)) ((zw_l (by rw [mf_heapOf_B13, if_neg c_2, zlet_eq hs_3])).symm.trans hR_1) ls (lv_sub hl [0, 1, 2] rfl)
            · have hlt_3 : k_3 < Wd * R := Nat.lt_of_not_le c_3
              refine lv_iload_n hx hb dX7_heapOf_32 rfl (lv_at hl 2 rfl) ?_
              refine lv_iload hx hb dX7_heapOf_33 (lv_at hl 0 rfl) ?_
              refine lv_ishr hx hb dX7_heapOf_35 ?_
              refine lv_iconst (v := 1) hx hb dX7_heapOf_36 (by decide) ?_
              refine lv_iand hx hb dX7_heapOf_37 ?_
              refine lv_iconst (v := 1) hx hb dX7_heapOf_38 (by decide) ?_
              refine lv_icmp_ne (tgt := 59) hx hb dX7_heapOf_39 (by decide) (fun c_4 => ?_) (fun c_4 => ?_)
              · refine lv_iinc (v := nI (k_3 + 1)) (lv' := [(4, .int (nI (k_3 + 1))), (3, .int s_1.2), (2, .int s_3), (0, .ref (ad 0))]) hx hb dX7_heapOf_59 hl (k := 0) rfl (nI_add k_3 1) (by decide) rfl (fun ls hl => ?_)
                refine lv_goto (tgt := 23) hx hb dX7_heapOf_62 (by decide) ?_
                exact ih_3 (k_3 + 1) s_3 hlt_3 (by omega) (zf_s hst_3 (by rw [mf_heapOf_B23, if_neg c_4])) (by first | exact hi2 | (rw [← Int32.or_assoc, hi2])) ls (lv_sub hl [0, 1, 2, 3] rfl)
              · refine lv_iload_n hx hb dX7_heapOf_42 rfl (lv_at hl 2 rfl) ?_
                refine lv_aload_n hx hb dX7_heapOf_43 rfl (lv_at hl 3 rfl) ?_
                refine va_get (D := G.1) (ci := 7) (v := .ref (ad 9)) (C := RX7) (T := TX7) (N := 39) hx hb hts in_X7 hown hK.1 hP 0 rfl rfl 23 (Nat.le_of_ble_eq_true rfl) (hts _ q1490) (fun _ h => h) rfl dX7_heapOf_44 ?_
                refine lv_iload hx hb dX7_heapOf_47 (lv_at hl 0 rfl) ?_
                refine zr_iald k_3 (v := m_beside k_3) hx hb hK hP 9 rfl rfl (Nat.le_of_ble_eq_true rfl) rfl (by omega) rfl dX7_heapOf_49 ?_
                refine lv_aload_n hx hb dX7_heapOf_50 rfl (lv_at hl 3 rfl) ?_
                refine va_get (D := G.1) (ci := 7) (v := .ref (ad 1)) (C := RX7) (T := TX7) (N := 39) hx hb hts in_X7 hown hK.1 hP 0 rfl rfl 0 (Nat.le_of_ble_eq_true rfl) (hts _ q1467) (fun _ h => h) rfl dX7_heapOf_51 ?_
                refine lv_iconst (v := 3) hx hb dX7_heapOf_54 (by decide) ?_
                refine zr_iald 3 (v := m_at 3) hx hb hK hP 1 rfl rfl (Nat.le_of_ble_eq_true rfl) rfl (by decide) rfl dX7_heapOf_55 ?_
                refine lv_iand hx hb dX7_heapOf_56 ?_
                refine lv_ior hx hb dX7_heapOf_57 ?_
                refine lv_istore_n (lv' := [(2, .int (s_3 ||| ((m_beside k_3) &&& (m_at 3)))), (4, .int (nI k_3)), (3, .int s_1.2), (0, .ref (ad 0))]) hx hb dX7_heapOf_58 rfl hl (by decide) rfl (fun ls hl => ?_)
                refine lv_iinc (v := nI (k_3 + 1)) (lv' := [(4, .int (nI (k_3 + 1))), (2, .int (s_3 ||| ((m_beside k_3) &&& (m_at 3)))), (3, .int s_1.2), (0, .ref (ad 0))]) hx hb dX7_heapOf_59 hl (k := 1) rfl (nI_add k_3 1) (by decide) rfl (fun ls hl => ?_)
                refine lv_goto (tgt := 23) hx hb dX7_heapOf_62 (by decide) ?_
                exact ih_3 (k_3 + 1) (s_3 ||| ((m_beside k_3) &&& (m_at 3))) hlt_3 (by omega) (zf_s hst_3 (by rw [mf_heapOf_B23, if_pos c_4])) (by first | exact hi2 | (rw [← Int32.or_assoc, hi2])) ls (lv_sub hl [0, 2, 1, 3] rfl)
        exact hlp_3 ((Wd * R) + 1) 0 s_1.2 (Nat.zero_le _) (by omega) rfl (Int32.or_self) ls (lv_sub hl [0, 1, 2, 3] rfl)
  exact hlp_1 _ (0, (m_at 3) &&& ((1 : Int32) <<< ((nI kk) &&& 31))) (Nat.lt_succ_self _) (by rw [mf_heapOf_L13]) ls (lv_sub hl [0, 1, 2] rfl)
def mf_heaps_B26 (m_at : Nat → Int32) (Wd : Nat) (R : Nat) (t_4 : (Nat → Int32)) (k_5 : Nat) (s_5 : Int32 × Int32) : Int32 × Int32 :=
  (if (mf_heapOf m_at t_4 Wd R k_5) = 0 then
    (zmax s_5.1 (nI (zpc (mf_heapOf m_at t_4 Wd R k_5))), s_5.2 + 0)
  else
    (if ((mf_heapOf m_at t_4 Wd R k_5) &&& (((1 : Int32) <<< ((nI k_5) &&& 31)) - 1)) = 0 then
      (zmax s_5.1 (nI (zpc (mf_heapOf m_at t_4 Wd R k_5))), s_5.2 + 1)
    else
      (zmax s_5.1 (nI (zpc (mf_heapOf m_at t_4 Wd R k_5))), s_5.2 + 0)))
def mf_heaps_L26 (m_at : Nat → Int32) (Wd : Nat) (R : Nat) (t_4 : (Nat → Int32)) (s_5 : Int32 × Int32) : Int32 × Int32 := zf (mf_heaps_B26 m_at Wd R t_4) s_5 (Wd * R)
def mf_heaps (m_at : Nat → Int32) (m_beside : Nat → Int32) (Wd : Nat) (R : Nat) (what : Int32) : Int32 × Int32 × (Nat → Int32) :=
  (if what < 0 then
    ((-1), 1, m_beside)
  else
    (if what ≤ 1 then
      zlet (mf_laysNear m_at m_beside Wd R) (fun t_4 =>
      zlet (mf_heaps_L26 m_at Wd R t_4 (0, 0)) (fun s_5 =>
      (if what = 0 then
        (s_5.2, 0, t_4)
      else
        (s_5.1, 0, t_4))))
    else
      ((-1), 1, m_beside)))
theorem hd_X7_heaps : yX7_heaps.cls = RX7 ∧ yX7_heaps.cls ≠ "java/lang/invoke/MethodHandle" ∧ yX7_heaps.cls ≠ "java/lang/invoke/VarHandle" ∧ (parseMethodDescriptor yX7_heaps.desc).map (fun d => d.parameters.length) = some 1 := by decide +kernel
set_option maxHeartbeats 4000000 in
set_option maxRecDepth 100000 in
theorem mt_mf_heaps (l : Launch) (G : zG) (ad : Nat → Nat) (m_status : Int32) (m_top : Int64) (m_bottom : Int64) (m_taped : Int32) (m_size : Int32) (m_token : Int32) (m_from : Int32) (m_end : Int32) (m_value : Int32) (m_faultKind : Int32) (m_faultPlace : Int32) (m_faults : Int32) (m_seen : Int32) (m_depth : Int32) (m_counted : Int32) (m_lead : Int32) (m_round : Int32) (m_tried : Int32) (m_triedMany : Int32) (m_drawn : Int32) (m_ranSteps : Int32) (m_isTold : Bool) (m_marks : Int32) (m_at : Nat → Int32) (m_names : Nat → Int64) (m_sort : Nat → Int32) (m_trayMany : Nat → Int32) (m_trays : Nat → Int64) (m_tape : Nat → Int32) (m_text : Nat → Int32) (m_opened : Nat → Int32) (m_beside : Nat → Int32) (m_then : Nat → Int32) (m_ways : Nat → Int64) (m_further : Nat → Int64) (m_canBe : Nat → Int32) (m_loops : Nat → Int32) (m_ran : Nat → Int32) (m_told0 : Nat → Int32) (Wd : Nat) (R : Nat) (nr : Nat) (nc : Nat) (what : Int32) (hG : mOK m_at Wd R nr nc) (sz : Nat) : Met l yX7_heaps (ws_ yX7_heaps cX7_heaps 6 (some .int)) (zR 4 0 0) (zPm G sz [.ref (ad 0), .int what] (mW G ad m_status m_top m_bottom m_taped m_size m_token m_from m_end m_value m_faultKind m_faultPlace m_faults m_seen m_depth m_counted m_lead m_round m_tried m_triedMany m_drawn m_ranSteps m_isTold m_marks m_at m_names m_sort m_trayMany m_trays m_tape m_text m_opened m_beside m_then m_ways m_further m_canBe m_loops m_ran m_told0)) (zQm G (True) (some (.int ((mf_heaps m_at m_beside Wd R what).1))) (mW G ad ((mf_heaps m_at m_beside Wd R what).2.1) m_top m_bottom m_taped m_size m_token m_from m_end m_value m_faultKind m_faultPlace m_faults m_seen m_depth m_counted m_lead m_round m_tried m_triedMany m_drawn m_ranSteps m_isTold m_marks m_at m_names m_sort m_trayMany m_trays m_tape m_text m_opened ((mf_heaps m_at m_beside Wd R what).2.2) m_then m_ways m_further m_canBe m_loops m_ran m_told0) (va_A (mW G ad m_status m_top m_bottom m_taped m_size m_token m_from m_end m_value m_faultKind m_faultPlace m_faults m_seen m_depth m_counted m_lead m_round m_tried m_triedMany m_drawn m_ranSteps m_isTold m_marks m_at m_names m_sort m_trayMany m_trays m_tape m_text m_opened m_beside m_then m_ways m_further m_canBe m_loops m_ran m_told0) sz)) 0 0 (va_A (mW G ad m_status m_top m_bottom m_taped m_size m_token m_from m_end m_value m_faultKind m_faultPlace m_faults m_seen m_depth m_counted m_lead m_round m_tried m_triedMany m_drawn m_ranSteps m_isTold m_marks m_at m_names m_sort m_trayMany m_trays m_tape m_text m_opened m_beside m_then m_ways m_further m_canBe m_loops m_ran m_told0) sz) := by
  refine zr_entM (by decide) (Nat.le_of_ble_eq_true rfl) ?_
  intro p e s m below meth c ⟨hx, hb, hr, hml, hown, hts, hlocks, hnm⟩ ls hl hP hK A hE hA hD hS
  have hown : s.vm.findClass RX7 = some m.cls := hown
  have hl : lv_has ls 6 [(0, .ref (ad 0)), (1, .int what)] := hl
  obtain ⟨H, hH⟩ : ∃ H, H = s.heap := ⟨_, rfl⟩
  obtain ⟨locs, hlo⟩ : ∃ L : List Loc, L = [] := ⟨_, rfl⟩
  rw [← hH] at hP
  have hS : va_S A s.heap H locs := by rw [hH, hlo]; exact va_S.rf
  have hgo : W p l e (zR 4 0 0) s m ([.ref (ad 0), .int what] : List Value).toArray below meth c H locs 0 0 (MQ below (zQm G (True) (some (.int ((mf_heaps m_at m_beside Wd R what).1))) (mW G ad ((mf_heaps m_at m_beside Wd R what).2.1) m_top m_bottom m_taped m_size m_token m_from m_end m_value m_faultKind m_faultPlace m_faults m_seen m_depth m_counted m_lead m_round m_tried m_triedMany m_drawn m_ranSteps m_isTold m_marks m_at m_names m_sort m_trayMany m_trays m_tape m_text m_opened ((mf_heaps m_at m_beside Wd R what).2.2) m_then m_ways m_further m_canBe m_loops m_ran m_told0) A) ([.ref (ad 0), .int what] : List Value).toArray s 0 0 A) (F0 m 0 ls []) := ?_
  · rw [hH, hlo] at hgo; exact hgo
  clear hH hlo
  have hWR := mOK_WR hG
  have hW0 := mOK_W0 hG
  have hW5 := mOK_W5 hG
  have hR0 := mOK_R0 hG
  have hR6 := mOK_R6 hG
  have hn4 := mOK_n4 hG
  have hc6 := mOK_c6 hG
  refine lv_iload_n hx hb dX7_heaps_0 rfl (lv_at hl 1 rfl) ?_
  refine lv_if_lt (tgt := 9) hx hb dX7_heaps_1 (by decide) (fun c_1 => ?_) (fun c_1 => ?_)
  · refine lv_aload_n hx hb dX7_heaps_9 rfl (lv_at hl 0 rfl) ?_
    refine lv_iconst (v := 1) hx hb dX7_heaps_10 (by decide) ?_
    refine zr_muV (F := ()) (ff := fun _ => True) (rr := fun _ => some (.int (-1))) (w1 := fun _ => (mW G ad 1 m_top m_bottom m_taped m_size m_token m_from m_end m_value m_faultKind m_faultPlace m_faults m_seen m_depth m_counted m_lead m_round m_tried m_triedMany m_drawn m_ranSteps m_isTold m_marks m_at m_names m_sort m_trayMany m_trays m_tape m_text m_opened m_beside m_then m_ways m_further m_canBe m_loops m_ran m_told0)) ⟨hx, hb, hml, hown, hts⟩ (mt_mf_refuse l G ad m_status m_top m_bottom m_taped m_size m_token m_from m_end m_value m_faultKind m_faultPlace m_faults m_seen m_depth m_counted m_lead m_round m_tried m_triedMany m_drawn m_ranSteps m_isTold m_marks m_at m_names m_sort m_trayMany m_trays m_tape m_text m_opened m_beside m_then m_ways m_further m_canBe m_loops m_ran m_told0 1 H.size) (cwV 1 hts (lw_V q1666 q1668 qs66 q144 q1669) rfl rfl rfl hd_X7_refuse ⟨(Nat.le_of_ble_eq_true rfl), (Nat.le_of_ble_eq_true rfl)⟩) hP hD hS hA hK hE 0 7 rfl rfl rfl hl.1 rfl (Nat.le_of_ble_eq_true rfl) dX7_heaps_11 ⟨Nat.le_refl _, Nat.le_refl _⟩ (fun _ _ _ H locs hP hD hS _ => ?_)
    refine W.eq (g2 := F0 m 14 ls [.int (-1)]) rfl ?_
    have e_ : mf_heaps m_at m_beside Wd R what = ((-1), 1, m_beside) := by rw [mf_heaps, if_pos c_1]
    exact zr_mi hx hb hr hlocks hP hD hS dX7_heaps_14 (by rw [e_])  (by rw [e_]) trivial
  · refine lv_iload_n hx hb dX7_heaps_4 rfl (lv_at hl 1 rfl) ?_
    refine lv_iconst (v := 1) hx hb dX7_heaps_5 (by decide) ?_
    refine lv_icmp_le (tgt := 15) hx hb dX7_heaps_6 (by decide) (fun c_3 => ?_) (fun c_3 => ?_)
    · refine lv_aload_n hx hb dX7_heaps_15 rfl (lv_at hl 0 rfl) ?_
      refine zr_muV (F := mf_laysNear m_at m_beside Wd R) (ff := fun t_4 => True) (rr := fun t_4 => none) (w1 := fun t_4 => (mW G ad m_status m_top m_bottom m_taped m_size m_token m_from m_end m_value m_faultKind m_faultPlace m_faults m_seen m_depth m_counted m_lead m_round m_tried m_triedMany m_drawn m_ranSteps m_isTold m_marks m_at m_names m_sort m_trayMany m_trays m_tape m_text m_opened t_4 m_then m_ways m_further m_canBe m_loops m_ran m_told0)) ⟨hx, hb, hml, hown, hts⟩ (mt_mf_laysNear l G ad m_status m_top m_bottom m_taped m_size m_token m_from m_end m_value m_faultKind m_faultPlace m_faults m_seen m_depth m_counted m_lead m_round m_tried m_triedMany m_drawn m_ranSteps m_isTold m_marks m_at m_names m_sort m_trayMany m_trays m_tape m_text m_opened m_beside m_then m_ways m_further m_canBe m_loops m_ran m_told0 Wd R nr nc hG H.size) (cwV 0 hts (lw_V q1889 q1891 qs105 q144 q1892) rfl rfl rfl hd_X7_laysNear ⟨(Nat.le_of_ble_eq_true rfl), (Nat.le_of_ble_eq_true rfl)⟩) hP hD hS hA hK hE 0 7 rfl rfl rfl hl.1 rfl (Nat.le_of_ble_eq_true rfl) dX7_heaps_16 ⟨Nat.le_refl _, Nat.le_refl _⟩ (fun t_4 ht_4 hft_4 H locs hP hD hS _ => ?_)
      refine W.eq (g2 := F0 m 19 ls []) rfl ?_
      refine lv_iconst (v := 0) hx hb dX7_heaps_19 (by decide) ?_
      refine lv_istore_n (lv' := [(2, .int 0), (0, .ref (ad 0)), (1, .int what)]) hx hb dX7_heaps_20 rfl hl (by decide) rfl (fun ls hl => ?_)
      refine lv_iconst (v := 0) hx hb dX7_heaps_21 (by decide) ?_
      refine lv_istore_n (lv' := [(3, .int 0), (2, .int 0), (0, .ref (ad 0)), (1, .int what)]) hx hb dX7_heaps_22 rfl hl (by decide) rfl (fun ls hl => ?_)
      refine lv_iconst (v := 0) hx hb dX7_heaps_23 (by decide) ?_
      refine lv_istore (lv' := [(4, .int 0), (3, .int 0), (2, .int 0), (0, .ref (ad 0)), (1, .int what)]) hx hb dX7_heaps_24 hl (by decide) rfl (fun ls hl => ?_)
      have hlp_5 : ∀ (n k_5 : Nat) (s_5 : Int32 × Int32), k_5 ≤ Wd * R → Wd * R < k_5 + n → zf (mf_heaps_B26 m_at Wd R t_4) (0, 0) k_5 = s_5 → ∀ (H : Heap) (locs : List Loc), va_P G.1 zcl (mW G ad m_status m_top m_bottom m_taped m_size m_token m_from m_end m_value m_faultKind m_faultPlace m_faults m_seen m_depth m_counted m_lead m_round m_tried m_triedMany m_drawn m_ranSteps m_isTold m_marks m_at m_names m_sort m_trayMany m_trays m_tape m_text m_opened t_4 m_then m_ways m_further m_canBe m_loops m_ran m_told0) H → va_D A (mW G ad m_status m_top m_bottom m_taped m_size m_token m_from m_end m_value m_faultKind m_faultPlace m_faults m_seen m_depth m_counted m_lead m_round m_tried m_triedMany m_drawn m_ranSteps m_isTold m_marks m_at m_names m_sort m_trayMany m_trays m_tape m_text m_opened t_4 m_then m_ways m_further m_canBe m_loops m_ran m_told0) → va_S A s.heap H locs → ∀ ls : Array Slot, lv_has ls 6 [(4, .int (nI k_5)), (3, .int s_5.1), (2, .int s_5.2), (0, .ref (ad 0)), (1, .int what)] → W p l e (zR 4 0 0) s m ([.ref (ad 0), .int what] : List Value).toArray below meth c H locs 0 0 (MQ below (zQm G (True) (some (.int ((mf_heaps m_at m_beside Wd R what).1))) (mW G ad ((mf_heaps m_at m_beside Wd R what).2.1) m_top m_bottom m_taped m_size m_token m_from m_end m_value m_faultKind m_faultPlace m_faults m_seen m_depth m_counted m_lead m_round m_tried m_triedMany m_drawn m_ranSteps m_isTold m_marks m_at m_names m_sort m_trayMany m_trays m_tape m_text m_opened ((mf_heaps m_at m_beside Wd R what).2.2) m_then m_ways m_further m_canBe m_loops m_ran m_told0) A) ([.ref (ad 0), .int what] : List Value).toArray s 0 0 A) (F0 m 26 ls []) := by
        intro n
        induction n with
        | zero => intro k_5 s_5 h1 h2; exact absurd h2 (by omega)
        | succ n ih_5 =>
          intro k_5 s_5 hk_5 hn_5 hst_5 H locs hP hD hS ls hl
          refine lv_iload hx hb dX7_heaps_26 (lv_at hl 0 rfl) ?_
          refine lv_aload_n hx hb dX7_heaps_28 rfl (lv_at hl 3 rfl) ?_
          refine zr_obV ⟨hx, hb, hml, hown, hts⟩ (mt_mf_places l G ad m_status m_top m_bottom m_taped m_size m_token m_from m_end m_value m_faultKind m_faultPlace m_faults m_seen m_depth m_counted m_lead m_round m_tried m_triedMany m_drawn m_ranSteps m_isTold m_marks m_at m_names m_sort m_trayMany m_trays m_tape m_text m_opened t_4 m_then m_ways m_further m_canBe m_loops m_ran m_told0 Wd R nr nc hG) (cwV 0 hts (lw_V q1815 q1817 qs97 q144 q1818) rfl rfl rfl hd_X7_places ⟨(Nat.le_of_ble_eq_true rfl), (Nat.le_of_ble_eq_true rfl)⟩) hP hK (zE_o hE hS) 0 7 rfl rfl rfl hl.1 rfl (Nat.le_of_ble_eq_true rfl) dX7_heaps_29 ⟨Nat.le_refl _, Nat.le_refl _⟩ ?_
          refine zr_ge k_5 (Wd * R) (by omega) (by omega) (tgt := 84) hx hb dX7_heaps_32 (by decide) (fun c_5 => ?_) (fun c_5 => ?_)
          · have ek_5 : k_5 = Wd * R := Nat.le_antisymm hk_5 c_5
            have hs_5 : mf_heaps_L26 m_at Wd R t_4 (0, 0) = s_5 := by rw [ek_5] at hst_5; exact hst_5
            have hl := lv_sub hl (l' := _) [1, 2, 3, 4] rfl
            refine lv_aload_n hx hb dX7_heaps_84 rfl (lv_at hl 2 rfl) ?_
            refine lv_iload_n hx hb dX7_heaps_85 rfl (lv_at hl 3 rfl) ?_
            refine lv_if_ne (tgt := 93) hx hb dX7_heaps_86 (by decide) (fun c_8 => ?_) (fun c_8 => ?_)
            · refine lv_iload_n hx hb dX7_heaps_93 rfl (lv_at hl 0 rfl) ?_
              refine zr_muV (F := ()) (ff := fun _ => True) (rr := fun _ => some (.int s_5.1)) (w1 := fun _ => (mW G ad 0 m_top m_bottom m_taped m_size m_token m_from m_end m_value m_faultKind m_faultPlace m_faults m_seen m_depth m_counted m_lead m_round m_tried m_triedMany m_drawn m_ranSteps m_isTold m_marks m_at m_names m_sort m_trayMany m_trays m_tape m_text m_opened t_4 m_then m_ways m_further m_canBe m_loops m_ran m_told0)) ⟨hx, hb, hml, hown, hts⟩ (mt_mf_gives l G ad m_status m_top m_bottom m_taped m_size m_token m_from m_end m_value m_faultKind m_faultPlace m_faults m_seen m_depth m_counted m_lead m_round m_tried m_triedMany m_drawn m_ranSteps m_isTold m_marks m_at m_names m_sort m_trayMany m_trays m_tape m_text m_opened t_4 m_then m_ways m_further m_canBe m_loops m_ran m_told0 s_5.1 H.size) (cwV 1 hts (lw_V q1751 q1753 qs85 q144 q1754) rfl rfl rfl hd_X7_gives ⟨(Nat.le_of_ble_eq_true rfl), (Nat.le_of_ble_eq_true rfl)⟩) hP hD hS hA hK hE 0 7 rfl rfl rfl hl.1 rfl (Nat.le_of_ble_eq_true rfl) dX7_heaps_94 ⟨Nat.le_refl _, Nat.le_refl _⟩ (fun _ _ _ H locs hP hD hS _ => ?_)
              refine W.eq (g2 := F0 m 97 ls [.int s_5.1]) rfl ?_
              have e_ : mf_heaps m_at m_beside Wd R what = (s_5.1, 0, t_4) := by rw [mf_heaps, if_neg c_1, if_pos c_3, zlet_eq ht_4, zlet_eq hs_5, if_neg c_8]
              exact zr_mi hx hb hr hlocks hP hD hS dX7_heaps_97 (by rw [e_])  (by rw [e_]) trivial
            · refine lv_iload_n hx hb dX7_heaps_89 rfl (lv_at hl 1 rfl) ?_
              refine lv_goto (tgt := 94) hx hb dX7_heaps_90 (by decide) ?_
              refine zr_muV (F := ()) (ff := fun _ => True) (rr := fun _ => some (.int s_5.2)) (w1 := fun _ => (mW G ad 0 m_top m_bottom m_taped m_size m_token m_from m_end m_value m_faultKind m_faultPlace m_faults m_seen m_depth m_counted m_lead m_round m_tried m_triedMany m_drawn m_ranSteps m_isTold m_marks m_at m_names m_sort m_trayMany m_trays m_tape m_text m_opened t_4 m_then m_ways m_further m_canBe m_loops m_ran m_told0)) ⟨hx, hb, hml, hown, hts⟩ (mt_mf_gives l G ad m_status m_top m_bottom m_taped m_size m_token m_from m_end m_value m_faultKind m_faultPlace m_faults m_seen m_depth m_counted m_lead m_round m_tried m_triedMany m_drawn m_ranSteps m_isTold m_marks m_at m_names m_sort m_trayMany m_trays m_tape m_text m_opened t_4 m_then m_ways m_further m_canBe m_loops m_ran m_told0 s_5.2 H.size) (cwV 1 hts (lw_V q1751 q1753 qs85 q144 q1754) rfl rfl rfl hd_X7_gives ⟨(Nat.le_of_ble_eq_true rfl), (Nat.le_of_ble_eq_true rfl)⟩) hP hD hS hA hK hE 0 7 rfl rfl rfl hl.1 rfl (Nat.le_of_ble_eq_true rfl) dX7_heaps_94 ⟨Nat.le_refl _, Nat.le_refl _⟩ (fun _ _ _ H locs hP hD hS _ => ?_)
              refine W.eq (g2 := F0 m 97 ls [.int s_5.2]) rfl ?_
              have e_ : mf_heaps m_at m_beside Wd R what = (s_5.2, 0, t_4) := by rw [mf_heaps, if_neg c_1, if_pos c_3, zlet_eq ht_4, zlet_eq hs_5, if_pos c_8]
              exact zr_mi hx hb hr hlocks hP hD hS dX7_heaps_97 (by rw [e_])  (by rw [e_]) trivial
          · have hlt_5 : k_5 < Wd * R := Nat.lt_of_not_le c_5
            refine lv_aload_n hx hb dX7_heaps_35 rfl (lv_at hl 3 rfl) ?_
            refine lv_iload hx hb dX7_heaps_36 (lv_at hl 0 rfl) ?_
            refine zr_obV ⟨hx, hb, hml, hown, hts⟩ (mt_mf_heapOf l G ad m_status m_top m_bottom m_taped m_size m_token m_from m_end m_value m_faultKind m_faultPlace m_faults m_seen m_depth m_counted m_lead m_round m_tried m_triedMany m_drawn m_ranSteps m_isTold m_marks m_at m_names m_sort m_trayMany m_trays m_tape m_text m_opened t_4 m_then m_ways m_further m_canBe m_loops m_ran m_told0 Wd R nr nc k_5 hG) (cwV 1 hts (lw_V q2086 q2088 qs124 q144 q2089) rfl rfl rfl hd_X7_heapOf ⟨(Nat.le_of_ble_eq_true rfl), (Nat.le_of_ble_eq_true rfl)⟩) hP hK (zE_o hE hS) 0 7 rfl rfl rfl hl.1 rfl (Nat.le_of_ble_eq_true rfl) dX7_heaps_38 ⟨Nat.le_refl _, Nat.le_refl _⟩ ?_
            refine lv_istore (lv' := [(5, .int (mf_heapOf m_at t_4 Wd R k_5)), (4, .int (nI k_5)), (3, .int s_5.1), (2, .int s_5.2), (0, .ref (ad 0)), (1, .int what)]) hx hb dX7_heaps_41 hl (by decide) rfl (fun ls hl => ?_)
            refine lv_iload_n hx hb dX7_heaps_43 rfl (lv_at hl 2 rfl) ?_
            refine lv_iload hx hb dX7_heaps_44 (lv_at hl 0 rfl) ?_
            refine zr_puS ⟨hx, hb, hml, hown, hts⟩ (mt_bitsN l (mf_heapOf m_at t_4 Wd R k_5)) (va_cwS 1 hts (lw_S q1744 q1745 q144 q1746) rfl rfl rfl hd_X7_bits.2 ⟨(Nat.le_of_ble_eq_true rfl), (Nat.le_of_ble_eq_true rfl)⟩) rfl hl.1 rfl (Nat.le_of_ble_eq_true rfl) dX7_heaps_46 ⟨Nat.le_refl _, Nat.le_refl _⟩ ?_
            refine va_mmax (x := s_5.1) (y := nI (zpc (mf_heapOf m_at t_4 Wd R k_5))) hx hb (hml.trans hl.1.symm) hown (hts _ q1947) (hts _ q1149) (hts _ q156) (hts _ q1150) (Nat.le_of_ble_eq_true rfl) (Nat.le_of_ble_eq_true rfl) (Nat.le_refl _) (Nat.le_refl _) dX7_heaps_49 ?_
            refine W.eq (g2 := F0 m 52 ls [.int (zmax s_5.1 (nI (zpc (mf_heapOf m_at t_4 Wd R k_5))))]) rfl ?_
            refine lv_istore_n (lv' := [(3, .int (zmax s_5.1 (nI (zpc (mf_heapOf m_at t_4 Wd R k_5))))), (5, .int (mf_heapOf m_at t_4 Wd R k_5)), (4, .int (nI k_5)), (2, .int s_5.2), (0, .ref (ad 0)), (1, .int what)]) hx hb dX7_heaps_52 rfl hl (by decide) rfl (fun ls hl => ?_)
            refine lv_iload_n hx hb dX7_heaps_53 rfl (lv_at hl 3 rfl) ?_
            refine lv_iload hx hb dX7_heaps_54 (lv_at hl 1 rfl) ?_
            refine lv_if_eq (tgt := 75) hx hb dX7_heaps_56 (by decide) (fun c_6 => ?_) (fun c_6 => ?_)
            · refine lv_iconst (v := 0) hx hb dX7_heaps_75 (by decide) ?_
              refine lv_iadd hx hb dX7_heaps_76 ?_
              refine lv_istore_n (lv' := [(2, .int (s_5.2 + 0)), (3, .int (zmax s_5.1 (nI (zpc (mf_heapOf m_at t_4 Wd R k_5))))), (5, .int (mf_heapOf m_at t_4 Wd R k_5)), (4, .int (nI k_5)), (0, .ref (ad 0)), (1, .int what)]) hx hb dX7_heaps_77 rfl hl (by decide) rfl (fun ls hl => ?_)
              refine lv_iinc (v := nI (k_5 + 1)) (lv' := [(4, .int (nI (k_5 + 1))), (2, .int (s_5.2 + 0)), (3, .int (zmax s_5.1 (nI (zpc (mf_heapOf m_at t_4 Wd R k_5))))), (5, .int (mf_heapOf m_at t_4 Wd R k_5)), (0, .ref (ad 0)), (1, .int what)]) hx hb dX7_heaps_78 hl (k := 3) rfl (nI_add k_5 1) (by decide) rfl (fun ls hl => ?_)
              refine lv_goto (tgt := 26) hx hb dX7_heaps_81 (by decide) ?_
              exact ih_5 (k_5 + 1) (zmax s_5.1 (nI (zpc (mf_heapOf m_at t_4 Wd R k_5))), s_5.2 + 0) hlt_5 (by omega) (zf_s hst_5 (by rw [mf_heaps_B26, if_pos c_6])) H locs hP hD hS ls (lv_sub hl [0, 2, 1, 4, 5] rfl)
            · refine lv_iload hx hb dX7_heaps_59 (lv_at hl 1 rfl) ?_
              refine lv_iconst (v := 1) hx hb dX7_heaps_61 (by decide) ?_
              refine lv_iload hx hb dX7_heaps_62 (lv_at hl 2 rfl) ?_
              refine lv_ishl hx hb dX7_heaps_64 ?_
              refine lv_iconst (v := 1) hx hb dX7_heaps_65 (by decide) ?_
              refine lv_isub hx hb dX7_heaps_66 ?_
              refine lv_iand hx hb dX7_heaps_67 ?_
              refine lv_if_ne (tgt := 75) hx hb dX7_heaps_68 (by decide) (fun c_7 => ?_) (fun c_7 => ?_)
              · refine lv_iconst (v := 0) hx hb dX7_heaps_75 (by decide) ?_
                refine lv_iadd hx hb dX7_heaps_76 ?_
                refine lv_istore_n (lv' := [(2, .int (s_5.2 + 0)), (3, .int (zmax s_5.1 (nI (zpc (mf_heapOf m_at t_4 Wd R k_5))))), (5, .int (mf_heapOf m_at t_4 Wd R k_5)), (4, .int (nI k_5)), (0, .ref (ad 0)), (1, .int what)]) hx hb dX7_heaps_77 rfl hl (by decide) rfl (fun ls hl => ?_)
                refine lv_iinc (v := nI (k_5 + 1)) (lv' := [(4, .int (nI (k_5 + 1))), (2, .int (s_5.2 + 0)), (3, .int (zmax s_5.1 (nI (zpc (mf_heapOf m_at t_4 Wd R k_5))))), (5, .int (mf_heapOf m_at t_4 Wd R k_5)), (0, .ref (ad 0)), (1, .int what)]) hx hb dX7_heaps_78 hl (k := 3) rfl (nI_add k_5 1) (by decide) rfl (fun ls hl => ?_)
                refine lv_goto (tgt := 26) hx hb dX7_heaps_81 (by decide) ?_
                exact ih_5 (k_5 + 1) (zmax s_5.1 (nI (zpc (mf_heapOf m_at t_4 Wd R k_5))), s_5.2 + 0) hlt_5 (by omega) (zf_s hst_5 (by rw [mf_heaps_B26, if_neg c_6, if_neg c_7])) H locs hP hD hS ls (lv_sub hl [0, 2, 1, 4, 5] rfl)
              · refine lv_iconst (v := 1) hx hb dX7_heaps_71 (by decide) ?_
                refine lv_goto (tgt := 76) hx hb dX7_heaps_72 (by decide) ?_
                refine lv_iadd hx hb dX7_heaps_76 ?_
                refine lv_istore_n (lv' := [(2, .int (s_5.2 + 1)), (3, .int (zmax s_5.1 (nI (zpc (mf_heapOf m_at t_4 Wd R k_5))))), (5, .int (mf_heapOf m_at t_4 Wd R k_5)), (4, .int (nI k_5)), (0, .ref (ad 0)), (1, .int what)]) hx hb dX7_heaps_77 rfl hl (by decide) rfl (fun ls hl => ?_)
                refine lv_iinc (v := nI (k_5 + 1)) (lv' := [(4, .int (nI (k_5 + 1))), (2, .int (s_5.2 + 1)), (3, .int (zmax s_5.1 (nI (zpc (mf_heapOf m_at t_4 Wd R k_5))))), (5, .int (mf_heapOf m_at t_4 Wd R k_5)), (0, .ref (ad 0)), (1, .int what)]) hx hb dX7_heaps_78 hl (k := 3) rfl (nI_add k_5 1) (by decide) rfl (fun ls hl => ?_)
                refine lv_goto (tgt := 26) hx hb dX7_heaps_81 (by decide) ?_
                exact ih_5 (k_5 + 1) (zmax s_5.1 (nI (zpc (mf_heapOf m_at t_4 Wd R k_5))), s_5.2 + 1) hlt_5 (by omega) (zf_s hst_5 (by rw [mf_heaps_B26, if_neg c_6, if_pos c_7])) H locs hP hD hS ls (lv_sub hl [0, 2, 1, 4, 5] rfl)
      exact hlp_5 ((Wd * R) + 1) 0 (0, 0) (Nat.zero_le _) (by omega) rfl H locs hP hD hS ls (lv_sub hl [0, 1, 2, 3, 4] rfl)
    · refine lv_aload_n hx hb dX7_heaps_9 rfl (lv_at hl 0 rfl) ?_
      refine lv_iconst (v := 1) hx hb dX7_heaps_10 (by decide) ?_
      refine zr_muV (F := ()) (ff := fun _ => True) (rr := fun _ => some (.int (-1))) (w1 := fun _ => (mW G ad 1 m_top m_bottom m_taped m_size m_token m_from m_end m_value m_faultKind m_faultPlace m_faults m_seen m_depth m_counted m_lead m_round m_tried m_triedMany m_drawn m_ranSteps m_isTold m_marks m_at m_names m_sort m_trayMany m_trays m_tape m_text m_opened m_beside m_then m_ways m_further m_canBe m_loops m_ran m_told0)) ⟨hx, hb, hml, hown, hts⟩ (mt_mf_refuse l G ad m_status m_top m_bottom m_taped m_size m_token m_from m_end m_value m_faultKind m_faultPlace m_faults m_seen m_depth m_counted m_lead m_round m_tried m_triedMany m_drawn m_ranSteps m_isTold m_marks m_at m_names m_sort m_trayMany m_trays m_tape m_text m_opened m_beside m_then m_ways m_further m_canBe m_loops m_ran m_told0 1 H.size) (cwV 1 hts (lw_V q1666 q1668 qs66 q144 q1669) rfl rfl rfl hd_X7_refuse ⟨(Nat.le_of_ble_eq_true rfl), (Nat.le_of_ble_eq_true rfl)⟩) hP hD hS hA hK hE 0 7 rfl rfl rfl hl.1 rfl (Nat.le_of_ble_eq_true rfl) dX7_heaps_11 ⟨Nat.le_refl _, Nat.le_refl _⟩ (fun _ _ _ H locs hP hD hS _ => ?_)
      refine W.eq (g2 := F0 m 14 ls [.int (-1)]) rfl ?_
      have e_ : mf_heaps m_at m_beside Wd R what = ((-1), 1, m_beside) := by rw [mf_heaps, if_neg c_1, if_neg c_3]
      exact zr_mi hx hb hr hlocks hP hD hS dX7_heaps_14 (by rw [e_])  (by rw [e_]) trivial
def mf_heap (m_at : Nat → Int32) (m_beside : Nat → Int32) (Wd : Nat) (R : Nat) (x : Int32) (y : Int32) : Int32 × Int32 × (Nat → Int32) :=
  (if (mf_wrongHouse m_at Wd R x y) ≤ 0 then
    zlet (mf_laysNear m_at m_beside Wd R) (fun t_2 =>
    (nI (zpc (mf_heapOf m_at t_2 Wd R (Wd * y.toNatClampNeg + x.toNatClampNeg))), 0, t_2))
  else
    ((-1), mf_wrongHouse m_at Wd R x y, m_beside))
theorem hd_X7_heap : yX7_heap.cls = RX7 ∧ yX7_heap.cls ≠ "java/lang/invoke/MethodHandle" ∧ yX7_heap.cls ≠ "java/lang/invoke/VarHandle" ∧ (parseMethodDescriptor yX7_heap.desc).map (fun d => d.parameters.length) = some 2 := by decide +kernel
set_option maxHeartbeats 4000000 in
set_option maxRecDepth 100000 in
theorem mt_mf_heap (l : Launch) (G : zG) (ad : Nat → Nat) (m_status : Int32) (m_top : Int64) (m_bottom : Int64) (m_taped : Int32) (m_size : Int32) (m_token : Int32) (m_from : Int32) (m_end : Int32) (m_value : Int32) (m_faultKind : Int32) (m_faultPlace : Int32) (m_faults : Int32) (m_seen : Int32) (m_depth : Int32) (m_counted : Int32) (m_lead : Int32) (m_round : Int32) (m_tried : Int32) (m_triedMany : Int32) (m_drawn : Int32) (m_ranSteps : Int32) (m_isTold : Bool) (m_marks : Int32) (m_at : Nat → Int32) (m_names : Nat → Int64) (m_sort : Nat → Int32) (m_trayMany : Nat → Int32) (m_trays : Nat → Int64) (m_tape : Nat → Int32) (m_text : Nat → Int32) (m_opened : Nat → Int32) (m_beside : Nat → Int32) (m_then : Nat → Int32) (m_ways : Nat → Int64) (m_further : Nat → Int64) (m_canBe : Nat → Int32) (m_loops : Nat → Int32) (m_ran : Nat → Int32) (m_told0 : Nat → Int32) (Wd : Nat) (R : Nat) (nr : Nat) (nc : Nat) (x : Int32) (y : Int32) (hG : mOK m_at Wd R nr nc) (sz : Nat) : Met l yX7_heap (ws_ yX7_heap cX7_heap 4 (some .int)) (zR 4 0 0) (zPm G sz [.ref (ad 0), .int x, .int y] (mW G ad m_status m_top m_bottom m_taped m_size m_token m_from m_end m_value m_faultKind m_faultPlace m_faults m_seen m_depth m_counted m_lead m_round m_tried m_triedMany m_drawn m_ranSteps m_isTold m_marks m_at m_names m_sort m_trayMany m_trays m_tape m_text m_opened m_beside m_then m_ways m_further m_canBe m_loops m_ran m_told0)) (zQm G (True) (some (.int ((mf_heap m_at m_beside Wd R x y).1))) (mW G ad ((mf_heap m_at m_beside Wd R x y).2.1) m_top m_bottom m_taped m_size m_token m_from m_end m_value m_faultKind m_faultPlace m_faults m_seen m_depth m_counted m_lead m_round m_tried m_triedMany m_drawn m_ranSteps m_isTold m_marks m_at m_names m_sort m_trayMany m_trays m_tape m_text m_opened ((mf_heap m_at m_beside Wd R x y).2.2) m_then m_ways m_further m_canBe m_loops m_ran m_told0) (va_A (mW G ad m_status m_top m_bottom m_taped m_size m_token m_from m_end m_value m_faultKind m_faultPlace m_faults m_seen m_depth m_counted m_lead m_round m_tried m_triedMany m_drawn m_ranSteps m_isTold m_marks m_at m_names m_sort m_trayMany m_trays m_tape m_text m_opened m_beside m_then m_ways m_further m_canBe m_loops m_ran m_told0) sz)) 0 0 (va_A (mW G ad m_status m_top m_bottom m_taped m_size m_token m_from m_end m_value m_faultKind m_faultPlace m_faults m_seen m_depth m_counted m_lead m_round m_tried m_triedMany m_drawn m_ranSteps m_isTold m_marks m_at m_names m_sort m_trayMany m_trays m_tape m_text m_opened m_beside m_then m_ways m_further m_canBe m_loops m_ran m_told0) sz) := by
  refine zr_entM (by decide) (Nat.le_of_ble_eq_true rfl) ?_
  intro p e s m below meth c ⟨hx, hb, hr, hml, hown, hts, hlocks, hnm⟩ ls hl hP hK A hE hA hD hS
  have hown : s.vm.findClass RX7 = some m.cls := hown
  have hl : lv_has ls 4 [(0, .ref (ad 0)), (1, .int x), (2, .int y)] := hl
  obtain ⟨H, hH⟩ : ∃ H, H = s.heap := ⟨_, rfl⟩
  obtain ⟨locs, hlo⟩ : ∃ L : List Loc, L = [] := ⟨_, rfl⟩
  rw [← hH] at hP
  have hS : va_S A s.heap H locs := by rw [hH, hlo]; exact va_S.rf
  have hgo : W p l e (zR 4 0 0) s m ([.ref (ad 0), .int x, .int y] : List Value).toArray below meth c H locs 0 0 (MQ below (zQm G (True) (some (.int ((mf_heap m_at m_beside Wd R x y).1))) (mW G ad ((mf_heap m_at m_beside Wd R x y).2.1) m_top m_bottom m_taped m_size m_token m_from m_end m_value m_faultKind m_faultPlace m_faults m_seen m_depth m_counted m_lead m_round m_tried m_triedMany m_drawn m_ranSteps m_isTold m_marks m_at m_names m_sort m_trayMany m_trays m_tape m_text m_opened ((mf_heap m_at m_beside Wd R x y).2.2) m_then m_ways m_further m_canBe m_loops m_ran m_told0) A) ([.ref (ad 0), .int x, .int y] : List Value).toArray s 0 0 A) (F0 m 0 ls []) := ?_
  · rw [hH, hlo] at hgo; exact hgo
  clear hH hlo
  have hWR := mOK_WR hG
  have hW0 := mOK_W0 hG
  have hW5 := mOK_W5 hG
  have hR0 := mOK_R0 hG
  have hR6 := mOK_R6 hG
  have hn4 := mOK_n4 hG
  have hc6 := mOK_c6 hG
  refine lv_aload_n hx hb dX7_heap_0 rfl (lv_at hl 0 rfl) ?_
  refine lv_iload_n hx hb dX7_heap_1 rfl (lv_at hl 1 rfl) ?_
  refine lv_iload_n hx hb dX7_heap_2 rfl (lv_at hl 2 rfl) ?_
  refine zr_obV ⟨hx, hb, hml, hown, hts⟩ (mt_mf_wrongHouse l G ad m_status m_top m_bottom m_taped m_size m_token m_from m_end m_value m_faultKind m_faultPlace m_faults m_seen m_depth m_counted m_lead m_round m_tried m_triedMany m_drawn m_ranSteps m_isTold m_marks m_at m_names m_sort m_trayMany m_trays m_tape m_text m_opened m_beside m_then m_ways m_further m_canBe m_loops m_ran m_told0 Wd R nr nc x y hG) (cwV 2 hts (lw_V q1799 q1801 qs93 q144 q1802) rfl rfl rfl hd_X7_wrongHouse ⟨(Nat.le_of_ble_eq_true rfl), (Nat.le_of_ble_eq_true rfl)⟩) hP hK (zE_o hE hS) 0 7 rfl rfl rfl hl.1 rfl (Nat.le_of_ble_eq_true rfl) dX7_heap_3 ⟨Nat.le_refl _, Nat.le_refl _⟩ ?_
  refine lv_istore_n (lv' := [(3, .int (mf_wrongHouse m_at Wd R x y)), (0, .ref (ad 0)), (1, .int x), (2, .int y)]) hx hb dX7_heap_6 rfl hl (by decide) rfl (fun ls hl => ?_)
  refine lv_iload_n hx hb dX7_heap_7 rfl (lv_at hl 0 rfl) ?_
  refine lv_if_le (tgt := 17) hx hb dX7_heap_8 (by decide) (fun c_1 => ?_) (fun c_1 => ?_)
  · obtain ⟨⟨hx0, hx1⟩, hy0, hy1⟩ := isPlace_t (by omega) (by omega) (wrongHouse_0 c_1)
    have hcell := z_cell hWR hx1 hy1
    refine lv_aload_n hx hb dX7_heap_17 rfl (lv_at hl 1 rfl) ?_
    refine zr_muV (F := mf_laysNear m_at m_beside Wd R) (ff := fun t_2 => True) (rr := fun t_2 => none) (w1 := fun t_2 => (mW G ad m_status m_top m_bottom m_taped m_size m_token m_from m_end m_value m_faultKind m_faultPlace m_faults m_seen m_depth m_counted m_lead m_round m_tried m_triedMany m_drawn m_ranSteps m_isTold m_marks m_at m_names m_sort m_trayMany m_trays m_tape m_text m_opened t_2 m_then m_ways m_further m_canBe m_loops m_ran m_told0)) ⟨hx, hb, hml, hown, hts⟩ (mt_mf_laysNear l G ad m_status m_top m_bottom m_taped m_size m_token m_from m_end m_value m_faultKind m_faultPlace m_faults m_seen m_depth m_counted m_lead m_round m_tried m_triedMany m_drawn m_ranSteps m_isTold m_marks m_at m_names m_sort m_trayMany m_trays m_tape m_text m_opened m_beside m_then m_ways m_further m_canBe m_loops m_ran m_told0 Wd R nr nc hG H.size) (cwV 0 hts (lw_V q1889 q1891 qs105 q144 q1892) rfl rfl rfl hd_X7_laysNear ⟨(Nat.le_of_ble_eq_true rfl), (Nat.le_of_ble_eq_true rfl)⟩) hP hD hS hA hK hE 0 7 rfl rfl rfl hl.1 rfl (Nat.le_of_ble_eq_true rfl) dX7_heap_18 ⟨Nat.le_refl _, Nat.le_refl _⟩ (fun t_2 ht_2 hft_2 H locs hP hD hS _ => ?_)
    refine W.eq (g2 := F0 m 21 ls []) rfl ?_
    refine lv_aload_n hx hb dX7_heap_21 rfl (lv_at hl 1 rfl) ?_
    refine lv_aload_n hx hb dX7_heap_22 rfl (lv_at hl 1 rfl) ?_
    refine lv_aload_n hx hb dX7_heap_23 rfl (lv_at hl 1 rfl) ?_
    refine va_get (D := G.1) (ci := 7) (v := .ref (ad 1)) (C := RX7) (T := TX7) (N := 39) hx hb hts in_X7 hown hK.1 hP 0 rfl rfl 0 (Nat.le_of_ble_eq_true rfl) (hts _ q1467) (fun _ h => h) rfl dX7_heap_24 ?_
    refine lv_iconst (v := 0) hx hb dX7_heap_27 (by decide) ?_
    refine zr_iald 0 (v := nI Wd) hx hb hK hP 1 rfl rfl (Nat.le_of_ble_eq_true rfl) rfl (by decide) (mOK_w hG) dX7_heap_28 ?_
    refine lv_iload_n hx hb dX7_heap_29 rfl (lv_at hl 3 rfl) ?_
    refine zr_val (congrArg Value.int (z_nn hy0)) ?_
    refine W.eq (g2 := F0 m 30 ls [.int (nI y.toNatClampNeg), .int (nI Wd), .ref (ad 0), .ref (ad 0)]) rfl ?_
    refine zr_imulN Wd y.toNatClampNeg hx hb dX7_heap_30 ?_
    refine lv_iload_n hx hb dX7_heap_31 rfl (lv_at hl 2 rfl) ?_
    refine zr_val (congrArg Value.int (z_nn hx0)) ?_
    refine W.eq (g2 := F0 m 32 ls [.int (nI x.toNatClampNeg), .int (nI (Wd * y.toNatClampNeg)), .ref (ad 0), .ref (ad 0)]) rfl ?_
    refine zr_iaddN (Wd * y.toNatClampNeg) x.toNatClampNeg hx hb dX7_heap_32 ?_
    refine zr_val (v' := .int (nI (Wd * y.toNatClampNeg + x.toNatClampNeg))) (by rfl) ?_
    refine zr_obV ⟨hx, hb, hml, hown, hts⟩ (mt_mf_heapOf l G ad m_status m_top m_bottom m_taped m_size m_token m_from m_end m_value m_faultKind m_faultPlace m_faults m_seen m_depth m_counted m_lead m_round m_tried m_triedMany m_drawn m_ranSteps m_isTold m_marks m_at m_names m_sort m_trayMany m_trays m_tape m_text m_opened t_2 m_then m_ways m_further m_canBe m_loops m_ran m_told0 Wd R nr nc (Wd * y.toNatClampNeg + x.toNatClampNeg) hG) (cwV 1 hts (lw_V q2086 q2088 qs124 q144 q2089) rfl rfl rfl hd_X7_heapOf ⟨(Nat.le_of_ble_eq_true rfl), (Nat.le_of_ble_eq_true rfl)⟩) hP hK (zE_o hE hS) 0 7 rfl rfl rfl hl.1 rfl (Nat.le_of_ble_eq_true rfl) dX7_heap_33 ⟨Nat.le_refl _, Nat.le_refl _⟩ ?_
    refine zr_puS ⟨hx, hb, hml, hown, hts⟩ (mt_bitsN l (mf_heapOf m_at t_2 Wd R (Wd * y.toNatClampNeg + x.toNatClampNeg))) (va_cwS 1 hts (lw_S q1744 q1745 q144 q1746) rfl rfl rfl hd_X7_bits.2 ⟨(Nat.le_of_ble_eq_true rfl), (Nat.le_of_ble_eq_true rfl)⟩) rfl hl.1 rfl (Nat.le_of_ble_eq_true rfl) dX7_heap_36 ⟨Nat.le_refl _, Nat.le_refl _⟩ ?_
    refine zr_muV (F := ()) (ff := fun _ => True) (rr := fun _ => some (.int (nI (zpc (mf_heapOf m_at t_2 Wd R (Wd * y.toNatClampNeg + x.toNatClampNeg)))))) (w1 := fun _ => (mW G ad 0 m_top m_bottom m_taped m_size m_token m_from m_end m_value m_faultKind m_faultPlace m_faults m_seen m_depth m_counted m_lead m_round m_tried m_triedMany m_drawn m_ranSteps m_isTold m_marks m_at m_names m_sort m_trayMany m_trays m_tape m_text m_opened t_2 m_then m_ways m_further m_canBe m_loops m_ran m_told0)) ⟨hx, hb, hml, hown, hts⟩ (mt_mf_gives l G ad m_status m_top m_bottom m_taped m_size m_token m_from m_end m_value m_faultKind m_faultPlace m_faults m_seen m_depth m_counted m_lead m_round m_tried m_triedMany m_drawn m_ranSteps m_isTold m_marks m_at m_names m_sort m_trayMany m_trays m_tape m_text m_opened t_2 m_then m_ways m_further m_canBe m_loops m_ran m_told0 (nI (zpc (mf_heapOf m_at t_2 Wd R (Wd * y.toNatClampNeg + x.toNatClampNeg)))) H.size) (cwV 1 hts (lw_V q1751 q1753 qs85 q144 q1754) rfl rfl rfl hd_X7_gives ⟨(Nat.le_of_ble_eq_true rfl), (Nat.le_of_ble_eq_true rfl)⟩) hP hD hS hA hK hE 0 7 rfl rfl rfl hl.1 rfl (Nat.le_of_ble_eq_true rfl) dX7_heap_39 ⟨Nat.le_refl _, Nat.le_refl _⟩ (fun _ _ _ H locs hP hD hS _ => ?_)
    refine W.eq (g2 := F0 m 42 ls [.int (nI (zpc (mf_heapOf m_at t_2 Wd R (Wd * y.toNatClampNeg + x.toNatClampNeg))))]) rfl ?_
    have e_ : mf_heap m_at m_beside Wd R x y = (nI (zpc (mf_heapOf m_at t_2 Wd R (Wd * y.toNatClampNeg + x.toNatClampNeg))), 0, t_2) := by rw [mf_heap, if_pos c_1, zlet_eq ht_2]
    exact zr_mi hx hb hr hlocks hP hD hS dX7_heap_42 (by rw [e_])  (by rw [e_]) trivial
  · refine lv_aload_n hx hb dX7_heap_11 rfl (lv_at hl 1 rfl) ?_
    refine lv_iload_n hx hb dX7_heap_12 rfl (lv_at hl 0 rfl) ?_
    refine zr_muV (F := ()) (ff := fun _ => True) (rr := fun _ => some (.int (-1))) (w1 := fun _ => (mW G ad (mf_wrongHouse m_at Wd R x y) m_top m_bottom m_taped m_size m_token m_from m_end m_value m_faultKind m_faultPlace m_faults m_seen m_depth m_counted m_lead m_round m_tried m_triedMany m_drawn m_ranSteps m_isTold m_marks m_at m_names m_sort m_trayMany m_trays m_tape m_text m_opened m_beside m_then m_ways m_further m_canBe m_loops m_ran m_told0)) ⟨hx, hb, hml, hown, hts⟩ (mt_mf_refuse l G ad m_status m_top m_bottom m_taped m_size m_token m_from m_end m_value m_faultKind m_faultPlace m_faults m_seen m_depth m_counted m_lead m_round m_tried m_triedMany m_drawn m_ranSteps m_isTold m_marks m_at m_names m_sort m_trayMany m_trays m_tape m_text m_opened m_beside m_then m_ways m_further m_canBe m_loops m_ran m_told0 (mf_wrongHouse m_at Wd R x y) H.size) (cwV 1 hts (lw_V q1666 q1668 qs66 q144 q1669) rfl rfl rfl hd_X7_refuse ⟨(Nat.le_of_ble_eq_true rfl), (Nat.le_of_ble_eq_true rfl)⟩) hP hD hS hA hK hE 0 7 rfl rfl rfl hl.1 rfl (Nat.le_of_ble_eq_true rfl) dX7_heap_13 ⟨Nat.le_refl _, Nat.le_refl _⟩ (fun _ _ _ H locs hP hD hS _ => ?_)
    refine W.eq (g2 := F0 m 16 ls [.int (-1)]) rfl ?_
    have e_ : mf_heap m_at m_beside Wd R x y = ((-1), mf_wrongHouse m_at Wd R x y, m_beside) := by rw [mf_heap, if_neg c_1]
    exact zr_mi hx hb hr hlocks hP hD hS dX7_heap_16 (by rw [e_])  (by rw [e_]) trivial
def mf_tellsBy_B6 (dd : Nat) (s_1 : Nat × Nat) : (Nat × Nat) ⊕ (Nat × Nat) :=
  (if s_1.1 = 0 then
    .inr (s_1.1, s_1.2)
  else
    .inl (s_1.2 % s_1.1, s_1.1))
def mf_tellsBy_L6 (dd : Nat) (s_1 : Nat × Nat) : Nat × Nat := zw (mf_tellsBy_B6 dd) (s_1) (s_1.1 + 1) s_1
def mf_tellsBy (nn : Nat) (dd : Nat) : Bool × Int32 × Int64 × Int64 :=
  zlet (mf_tellsBy_L6 dd (dd, nn)) (fun t_1 =>
  (true, 0, lN (nn / t_1.2), lN (dd / t_1.2)))
theorem hd_X7_tellsBy : yX7_tellsBy.cls = RX7 ∧ yX7_tellsBy.cls ≠ "java/lang/invoke/MethodHandle" ∧ yX7_tellsBy.cls ≠ "java/lang/invoke/VarHandle" ∧ (parseMethodDescriptor yX7_tellsBy.desc).map (fun d => d.parameters.length) = some 2 := by decide +kernel
set_option maxHeartbeats 4000000 in
set_option maxRecDepth 100000 in
theorem mt_mf_tellsBy (l : Launch) (G : zG) (ad : Nat → Nat) (m_status : Int32) (m_top : Int64) (m_bottom : Int64) (m_taped : Int32) (m_size : Int32) (m_token : Int32) (m_from : Int32) (m_end : Int32) (m_value : Int32) (m_faultKind : Int32) (m_faultPlace : Int32) (m_faults : Int32) (m_seen : Int32) (m_depth : Int32) (m_counted : Int32) (m_lead : Int32) (m_round : Int32) (m_tried : Int32) (m_triedMany : Int32) (m_drawn : Int32) (m_ranSteps : Int32) (m_isTold : Bool) (m_marks : Int32) (m_at : Nat → Int32) (m_names : Nat → Int64) (m_sort : Nat → Int32) (m_trayMany : Nat → Int32) (m_trays : Nat → Int64) (m_tape : Nat → Int32) (m_text : Nat → Int32) (m_opened : Nat → Int32) (m_beside : Nat → Int32) (m_then : Nat → Int32) (m_ways : Nat → Int64) (m_further : Nat → Int64) (m_canBe : Nat → Int32) (m_loops : Nat → Int32) (m_ran : Nat → Int32) (m_told0 : Nat → Int32) (nn : Nat) (dd : Nat) (hdd : 0 < dd) (hnb : nn < 2 ^ 31) (hdb : dd < 2 ^ 31) (sz : Nat) : Met l yX7_tellsBy (ws_ yX7_tellsBy cX7_tellsBy 11 (some .boolean)) (zR 2 0 0) (zPm G sz [.ref (ad 0), .long (lN nn), .long (lN dd)] (mW G ad m_status m_top m_bottom m_taped m_size m_token m_from m_end m_value m_faultKind m_faultPlace m_faults m_seen m_depth m_counted m_lead m_round m_tried m_triedMany m_drawn m_ranSteps m_isTold m_marks m_at m_names m_sort m_trayMany m_trays m_tape m_text m_opened m_beside m_then m_ways m_further m_canBe m_loops m_ran m_told0)) (zQm G (True) (some (.int (zb ((mf_tellsBy nn dd).1)))) (mW G ad ((mf_tellsBy nn dd).2.1) ((mf_tellsBy nn dd).2.2.1) ((mf_tellsBy nn dd).2.2.2) m_taped m_size m_token m_from m_end m_value m_faultKind m_faultPlace m_faults m_seen m_depth m_counted m_lead m_round m_tried m_triedMany m_drawn m_ranSteps m_isTold m_marks m_at m_names m_sort m_trayMany m_trays m_tape m_text m_opened m_beside m_then m_ways m_further m_canBe m_loops m_ran m_told0) (va_A (mW G ad m_status m_top m_bottom m_taped m_size m_token m_from m_end m_value m_faultKind m_faultPlace m_faults m_seen m_depth m_counted m_lead m_round m_tried m_triedMany m_drawn m_ranSteps m_isTold m_marks m_at m_names m_sort m_trayMany m_trays m_tape m_text m_opened m_beside m_then m_ways m_further m_canBe m_loops m_ran m_told0) sz)) 0 0 (va_A (mW G ad m_status m_top m_bottom m_taped m_size m_token m_from m_end m_value m_faultKind m_faultPlace m_faults m_seen m_depth m_counted m_lead m_round m_tried m_triedMany m_drawn m_ranSteps m_isTold m_marks m_at m_names m_sort m_trayMany m_trays m_tape m_text m_opened m_beside m_then m_ways m_further m_canBe m_loops m_ran m_told0) sz) := by
  refine zr_entM (by decide) (Nat.le_of_ble_eq_true rfl) ?_
  intro p e s m below meth c ⟨hx, hb, hr, hml, hown, hts, hlocks, hnm⟩ ls hl hP hK A hE hA hD hS
  have hown : s.vm.findClass RX7 = some m.cls := hown
  have hl : lv_has ls 11 [(0, .ref (ad 0)), (1, .long (lN nn)), (3, .long (lN dd))] := hl
  obtain ⟨H, hH⟩ : ∃ H, H = s.heap := ⟨_, rfl⟩
  obtain ⟨locs, hlo⟩ : ∃ L : List Loc, L = [] := ⟨_, rfl⟩
  rw [← hH] at hP
  have hS : va_S A s.heap H locs := by rw [hH, hlo]; exact va_S.rf
  have hgo : W p l e (zR 2 0 0) s m ([.ref (ad 0), .long (lN nn), .long (lN dd)] : List Value).toArray below meth c H locs 0 0 (MQ below (zQm G (True) (some (.int (zb ((mf_tellsBy nn dd).1)))) (mW G ad ((mf_tellsBy nn dd).2.1) ((mf_tellsBy nn dd).2.2.1) ((mf_tellsBy nn dd).2.2.2) m_taped m_size m_token m_from m_end m_value m_faultKind m_faultPlace m_faults m_seen m_depth m_counted m_lead m_round m_tried m_triedMany m_drawn m_ranSteps m_isTold m_marks m_at m_names m_sort m_trayMany m_trays m_tape m_text m_opened m_beside m_then m_ways m_further m_canBe m_loops m_ran m_told0) A) ([.ref (ad 0), .long (lN nn), .long (lN dd)] : List Value).toArray s 0 0 A) (F0 m 0 ls []) := ?_
  · rw [hH, hlo] at hgo; exact hgo
  clear hH hlo
  refine lv_lload_n hx hb dX7_tellsBy_0 rfl (lv_at hl 1 rfl) ?_
  refine lv_lstore (lv' := [(5, .long (lN nn)), (0, .ref (ad 0)), (1, .long (lN nn)), (3, .long (lN dd))]) hx hb dX7_tellsBy_1 hl (by decide) rfl (fun ls hl => ?_)
  refine lv_lload_n hx hb dX7_tellsBy_3 rfl (lv_at hl 3 rfl) ?_
  refine lv_lstore (lv' := [(7, .long (lN dd)), (5, .long (lN nn)), (0, .ref (ad 0)), (1, .long (lN nn)), (3, .long (lN dd))]) hx hb dX7_tellsBy_4 hl (by decide) rfl (fun ls hl => ?_)
  have hx_1 : ∀ t_1 : Nat × Nat, mf_tellsBy_L6 dd (dd, nn) = t_1 → 0 < t_1.2 ∧ t_1.2 < 2 ^ 31 → ∀ (H : Heap) (locs : List Loc), va_P G.1 zcl (mW G ad m_status m_top m_bottom m_taped m_size m_token m_from m_end m_value m_faultKind m_faultPlace m_faults m_seen m_depth m_counted m_lead m_round m_tried m_triedMany m_drawn m_ranSteps m_isTold m_marks m_at m_names m_sort m_trayMany m_trays m_tape m_text m_opened m_beside m_then m_ways m_further m_canBe m_loops m_ran m_told0) H → va_D A (mW G ad m_status m_top m_bottom m_taped m_size m_token m_from m_end m_value m_faultKind m_faultPlace m_faults m_seen m_depth m_counted m_lead m_round m_tried m_triedMany m_drawn m_ranSteps m_isTold m_marks m_at m_names m_sort m_trayMany m_trays m_tape m_text m_opened m_beside m_then m_ways m_further m_canBe m_loops m_ran m_told0) → va_S A s.heap H locs → ∀ ls : Array Slot, lv_has ls 11 [(5, .long (lN t_1.2)), (0, .ref (ad 0)), (1, .long (lN nn)), (3, .long (lN dd))] → W p l e (zR 2 0 0) s m ([.ref (ad 0), .long (lN nn), .long (lN dd)] : List Value).toArray below meth c H locs 0 0 (MQ below (zQm G (True) (some (.int (zb ((mf_tellsBy nn dd).1)))) (mW G ad ((mf_tellsBy nn dd).2.1) ((mf_tellsBy nn dd).2.2.1) ((mf_tellsBy nn dd).2.2.2) m_taped m_size m_token m_from m_end m_value m_faultKind m_faultPlace m_faults m_seen m_depth m_counted m_lead m_round m_tried m_triedMany m_drawn m_ranSteps m_isTold m_marks m_at m_names m_sort m_trayMany m_trays m_tape m_text m_opened m_beside m_then m_ways m_further m_canBe m_loops m_ran m_told0) A) ([.ref (ad 0), .long (lN nn), .long (lN dd)] : List Value).toArray s 0 0 A) (F0 m 31 ls []) := by
    intro t_1 ht_1 hz H locs hP hD hS ls hl
    refine lv_aload_n hx hb dX7_tellsBy_31 rfl (lv_at hl 1 rfl) ?_
    refine lv_lload_n hx hb dX7_tellsBy_32 rfl (lv_at hl 2 rfl) ?_
    refine lv_lload hx hb dX7_tellsBy_33 (lv_at hl 0 rfl) ?_
    refine zr_ldivN nn t_1.2 (by omega) (by omega) (by omega) hx hb dX7_tellsBy_35 ?_
    refine va_put (D := G.1) (ci := 7) (v := .long (lN (nn / t_1.2))) (ty := .long) (C := RX7) (T := TX7) (N := 39) hx hb hts in_X7 tyX7 tyX7_ok nmX7 hown hK.1 hP hD hS 0 rfl rfl 3 (Nat.le_of_ble_eq_true rfl) (hts _ q1470) (fun _ h => h) rfl (tyX7_ok 3 (Nat.le_of_ble_eq_true rfl)) rfl rfl (Nat.le_of_ble_eq_true rfl) dX7_tellsBy_36 (fun H locs hP hD hS => ?_)
    have hP : va_P G.1 zcl (mW G ad m_status (lN (nn / t_1.2)) m_bottom m_taped m_size m_token m_from m_end m_value m_faultKind m_faultPlace m_faults m_seen m_depth m_counted m_lead m_round m_tried m_triedMany m_drawn m_ranSteps m_isTold m_marks m_at m_names m_sort m_trayMany m_trays m_tape m_text m_opened m_beside m_then m_ways m_further m_canBe m_loops m_ran m_told0) H := hP
    have hD : va_D A (mW G ad m_status (lN (nn / t_1.2)) m_bottom m_taped m_size m_token m_from m_end m_value m_faultKind m_faultPlace m_faults m_seen m_depth m_counted m_lead m_round m_tried m_triedMany m_drawn m_ranSteps m_isTold m_marks m_at m_names m_sort m_trayMany m_trays m_tape m_text m_opened m_beside m_then m_ways m_further m_canBe m_loops m_ran m_told0) := hD
    refine lv_aload_n hx hb dX7_tellsBy_39 rfl (lv_at hl 1 rfl) ?_
    refine lv_lload_n hx hb dX7_tellsBy_40 rfl (lv_at hl 3 rfl) ?_
    refine lv_lload hx hb dX7_tellsBy_41 (lv_at hl 0 rfl) ?_
    refine zr_ldivN dd t_1.2 (by omega) (by omega) (by omega) hx hb dX7_tellsBy_43 ?_
    refine va_put (D := G.1) (ci := 7) (v := .long (lN (dd / t_1.2))) (ty := .long) (C := RX7) (T := TX7) (N := 39) hx hb hts in_X7 tyX7 tyX7_ok nmX7 hown hK.1 hP hD hS 0 rfl rfl 4 (Nat.le_of_ble_eq_true rfl) (hts _ q1471) (fun _ h => h) rfl (tyX7_ok 4 (Nat.le_of_ble_eq_true rfl)) rfl rfl (Nat.le_of_ble_eq_true rfl) dX7_tellsBy_44 (fun H locs hP hD hS => ?_)
    have hP : va_P G.1 zcl (mW G ad m_status (lN (nn / t_1.2)) (lN (dd / t_1.2)) m_taped m_size m_token m_from m_end m_value m_faultKind m_faultPlace m_faults m_seen m_depth m_counted m_lead m_round m_tried m_triedMany m_drawn m_ranSteps m_isTold m_marks m_at m_names m_sort m_trayMany m_trays m_tape m_text m_opened m_beside m_then m_ways m_further m_canBe m_loops m_ran m_told0) H := hP
    have hD : va_D A (mW G ad m_status (lN (nn / t_1.2)) (lN (dd / t_1.2)) m_taped m_size m_token m_from m_end m_value m_faultKind m_faultPlace m_faults m_seen m_depth m_counted m_lead m_round m_tried m_triedMany m_drawn m_ranSteps m_isTold m_marks m_at m_names m_sort m_trayMany m_trays m_tape m_text m_opened m_beside m_then m_ways m_further m_canBe m_loops m_ran m_told0) := hD
    refine lv_aload_n hx hb dX7_tellsBy_47 rfl (lv_at hl 1 rfl) ?_
    refine lv_iconst (v := 0) hx hb dX7_tellsBy_48 (by decide) ?_
    refine zr_muV (F := ()) (ff := fun _ => True) (rr := fun _ => some (.int (zb (decide ((0 : Int32) = 0))))) (w1 := fun _ => (mW G ad 0 (lN (nn / t_1.2)) (lN (dd / t_1.2)) m_taped m_size m_token m_from m_end m_value m_faultKind m_faultPlace m_faults m_seen m_depth m_counted m_lead m_round m_tried m_triedMany m_drawn m_ranSteps m_isTold m_marks m_at m_names m_sort m_trayMany m_trays m_tape m_text m_opened m_beside m_then m_ways m_further m_canBe m_loops m_ran m_told0)) ⟨hx, hb, hml, hown, hts⟩ (mt_mf_is l G ad m_status (lN (nn / t_1.2)) (lN (dd / t_1.2)) m_taped m_size m_token m_from m_end m_value m_faultKind m_faultPlace m_faults m_seen m_depth m_counted m_lead m_round m_tried m_triedMany m_drawn m_ranSteps m_isTold m_marks m_at m_names m_sort m_trayMany m_trays m_tape m_text m_opened m_beside m_then m_ways m_further m_canBe m_loops m_ran m_told0 0 H.size) (cwV 1 hts (lw_V q1604 q1606 qs60 q144 q1607) rfl rfl rfl hd_X7_is ⟨(Nat.le_of_ble_eq_true rfl), (Nat.le_of_ble_eq_true rfl)⟩) hP hD hS hA hK hE 0 7 rfl rfl rfl hl.1 rfl (Nat.le_of_ble_eq_true rfl) dX7_tellsBy_49 ⟨Nat.le_refl _, Nat.le_refl _⟩ (fun _ _ _ H locs hP hD hS _ => ?_)
    refine W.eq (g2 := F0 m 52 ls [.int (zb (decide ((0 : Int32) = 0)))]) rfl ?_
    refine zr_val (v' := .int 1) (congrArg Value.int (by decide)) ?_
    have e_ : mf_tellsBy nn dd = (true, 0, lN (nn / t_1.2), lN (dd / t_1.2)) := by rw [mf_tellsBy, zlet_eq ht_1]
    exact zr_mz hx hb hr hlocks hP hD hS dX7_tellsBy_52 rfl (by rw [e_]; rfl) (by rw [e_]) trivial
  have hlp_1 : ∀ (n : Nat) (s_1 : Nat × Nat), s_1.1 < n → zw (mf_tellsBy_B6 dd) (dd, nn) n s_1 = mf_tellsBy_L6 dd (dd, nn) → 0 < s_1.2 ∨ 0 < s_1.1 → s_1.2 < 2 ^ 31 ∧ s_1.1 < 2 ^ 31 → ∀ (H : Heap) (locs : List Loc), va_P G.1 zcl (mW G ad m_status m_top m_bottom m_taped m_size m_token m_from m_end m_value m_faultKind m_faultPlace m_faults m_seen m_depth m_counted m_lead m_round m_tried m_triedMany m_drawn m_ranSteps m_isTold m_marks m_at m_names m_sort m_trayMany m_trays m_tape m_text m_opened m_beside m_then m_ways m_further m_canBe m_loops m_ran m_told0) H → va_D A (mW G ad m_status m_top m_bottom m_taped m_size m_token m_from m_end m_value m_faultKind m_faultPlace m_faults m_seen m_depth m_counted m_lead m_round m_tried m_triedMany m_drawn m_ranSteps m_isTold m_marks m_at m_names m_sort m_trayMany m_trays m_tape m_text m_opened m_beside m_then m_ways m_further m_canBe m_loops m_ran m_told0) → va_S A s.heap H locs → ∀ ls : Array Slot, lv_has ls 11 [(7, .long (lN s_1.1)), (5, .long (lN s_1.2)), (0, .ref (ad 0)), (1, .long (lN nn)), (3, .long (lN dd))] → W p l e (zR 2 0 0) s m ([.ref (ad 0), .long (lN nn), .long (lN dd)] : List Value).toArray below meth c H locs 0 0 (MQ below (zQm G (True) (some (.int (zb ((mf_tellsBy nn dd).1)))) (mW G ad ((mf_tellsBy nn dd).2.1) ((mf_tellsBy nn dd).2.2.1) ((mf_tellsBy nn dd).2.2.2) m_taped m_size m_token m_from m_end m_value m_faultKind m_faultPlace m_faults m_seen m_depth m_counted m_lead m_round m_tried m_triedMany m_drawn m_ranSteps m_isTold m_marks m_at m_names m_sort m_trayMany m_trays m_tape m_text m_opened m_beside m_then m_ways m_further m_canBe m_loops m_ran m_told0) A) ([.ref (ad 0), .long (lN nn), .long (lN dd)] : List Value).toArray s 0 0 A) (F0 m 6 ls []) := by
    intro n
    induction n with
    | zero => exact fun _ h => absurd h (Nat.not_lt_zero _)
    | succ n ih_1 =>
      intro s_1 hmu_1 hR_1 hi5 hib H locs hP hD hS ls hl
      refine lv_lload hx hb dX7_tellsBy_6 (lv_at hl 0 rfl) ?_
      refine lv_lconst (v := 0) hx hb dX7_tellsBy_8 rfl ?_
      refine W.lcmp hx hb dX7_tellsBy_9 ?_
      refine zr_leqN s_1.1 0 (by omega) (by decide) (tgt := 31) hx hb dX7_tellsBy_10 (by decide) (fun c_2 => ?_) (fun c_2 => ?_)
      · exact hx_1 (s_1.1, s_1.2) (hR_1.symm.trans (zw_r (by rw [mf_tellsBy_B6, if_pos c_2]))) (by omega) H locs hP hD hS ls (lv_sub hl [1, 2, 3, 4] rfl)
      · refine lv_lload hx hb dX7_tellsBy_13 (lv_at hl 1 rfl) ?_
        refine lv_lload hx hb dX7_tellsBy_15 (lv_at hl 0 rfl) ?_
        have hml : s_1.2 % s_1.1 < s_1.1 := Nat.mod_lt _ (by omega)
        refine zr_lremN s_1.2 s_1.1 (by omega) (by omega) (by omega) hx hb dX7_tellsBy_17 ?_
        refine lv_lstore (lv' := [(9, .long (lN (s_1.2 % s_1.1))), (7, .long (lN s_1.1)), (5, .long (lN s_1.2)), (0, .ref (ad 0)), (1, .long (lN nn)), (3, .long (lN dd))]) hx hb dX7_tellsBy_18 hl (by decide) rfl (fun ls hl => ?_)
        refine lv_lload hx hb dX7_tellsBy_20 (lv_at hl 1 rfl) ?_
        refine lv_lstore (lv' := [(5, .long (lN s_1.1)), (9, .long (lN (s_1.2 % s_1.1))), (7, .long (lN s_1.1)), (0, .ref (ad 0)), (1, .long (lN nn)), (3, .long (lN dd))]) hx hb dX7_tellsBy_22 hl (by decide) rfl (fun ls hl => ?_)
        refine lv_lload hx hb dX7_tellsBy_24 (lv_at hl 1 rfl) ?_
        refine lv_lstore (lv' := [(7, .long (lN (s_1.2 % s_1.1))), (5, .long (lN s_1.1)), (9, .long (lN (s_1.2 % s_1.1))), (0, .ref (ad 0)), (1, .long (lN nn)), (3, .long (lN dd))]) hx hb dX7_tellsBy_26 hl (by decide) rfl (fun ls hl => ?_)
        refine lv_goto (tgt := 6) hx hb dX7_tellsBy_28 (by decide) ?_
        exact ih_1 (s_1.2 % s_1.1, s_1.1) (z_modlt (by assumption) hmu_1) ((zw_l (by rw [mf_tellsBy_B6, if_neg c_2])).symm.trans hR_1) (by omega) (by omega) H locs hP hD hS ls (lv_sub hl [0, 1, 3, 4, 5] rfl)
  exact hlp_1 _ (dd, nn) (Nat.lt_succ_self _) (by rw [mf_tellsBy_L6]) (by omega) (by omega) H locs hP hD hS ls (lv_sub hl [0, 1, 2, 3, 4] rfl)
def mf_company_B24 (m_at : Nat → Int32) (Wd : Nat) (R : Nat) (t_2 : (Nat → Int32)) (k_3 : Nat) (s_3 : Nat) : Nat :=
  (if (((m_at 3) >>> ((nI k_3) &&& 31)) &&& 1) = 1 then
    s_3 + (zpc ((t_2 k_3) &&& (m_at 3)))
  else
    s_3)
def mf_company_L24 (m_at : Nat → Int32) (Wd : Nat) (R : Nat) (t_2 : (Nat → Int32)) (s_3 : Nat) : Nat := zf (mf_company_B24 m_at Wd R t_2) s_3 (Wd * R)
def mf_company (m_top : Int64) (m_bottom : Int64) (m_at : Nat → Int32) (m_beside : Nat → Int32) (Wd : Nat) (R : Nat) : Bool × Int32 × Int64 × Int64 × (Nat → Int32) :=
  (if (m_at 3) = 0 then
    (false, 6, m_top, m_bottom, m_beside)
  else
    zlet (mf_laysNear m_at m_beside Wd R) (fun t_2 =>
    zlet (mf_company_L24 m_at Wd R t_2 0) (fun s_3 =>
    zlet (mf_tellsBy s_3 (zpc (m_at 3))) (fun t_5 =>
    (t_5.1, t_5.2.1, t_5.2.2.1, t_5.2.2.2, t_2)))))
theorem hd_X7_company : yX7_company.cls = RX7 ∧ yX7_company.cls ≠ "java/lang/invoke/MethodHandle" ∧ yX7_company.cls ≠ "java/lang/invoke/VarHandle" ∧ (parseMethodDescriptor yX7_company.desc).map (fun d => d.parameters.length) = some 0 := by decide +kernel
set_option maxHeartbeats 4000000 in
set_option maxRecDepth 100000 in
theorem mt_mf_company (l : Launch) (G : zG) (ad : Nat → Nat) (m_status : Int32) (m_top : Int64) (m_bottom : Int64) (m_taped : Int32) (m_size : Int32) (m_token : Int32) (m_from : Int32) (m_end : Int32) (m_value : Int32) (m_faultKind : Int32) (m_faultPlace : Int32) (m_faults : Int32) (m_seen : Int32) (m_depth : Int32) (m_counted : Int32) (m_lead : Int32) (m_round : Int32) (m_tried : Int32) (m_triedMany : Int32) (m_drawn : Int32) (m_ranSteps : Int32) (m_isTold : Bool) (m_marks : Int32) (m_at : Nat → Int32) (m_names : Nat → Int64) (m_sort : Nat → Int32) (m_trayMany : Nat → Int32) (m_trays : Nat → Int64) (m_tape : Nat → Int32) (m_text : Nat → Int32) (m_opened : Nat → Int32) (m_beside : Nat → Int32) (m_then : Nat → Int32) (m_ways : Nat → Int64) (m_further : Nat → Int64) (m_canBe : Nat → Int32) (m_loops : Nat → Int32) (m_ran : Nat → Int32) (m_told0 : Nat → Int32) (Wd : Nat) (R : Nat) (nr : Nat) (nc : Nat) (hG : mOK m_at Wd R nr nc) (sz : Nat) : Met l yX7_company (ws_ yX7_company cX7_company 3 (some .boolean)) (zR 4 0 0) (zPm G sz [.ref (ad 0)] (mW G ad m_status m_top m_bottom m_taped m_size m_token m_from m_end m_value m_faultKind m_faultPlace m_faults m_seen m_depth m_counted m_lead m_round m_tried m_triedMany m_drawn m_ranSteps m_isTold m_marks m_at m_names m_sort m_trayMany m_trays m_tape m_text m_opened m_beside m_then m_ways m_further m_canBe m_loops m_ran m_told0)) (zQm G (True) (some (.int (zb ((mf_company m_top m_bottom m_at m_beside Wd R).1)))) (mW G ad ((mf_company m_top m_bottom m_at m_beside Wd R).2.1) ((mf_company m_top m_bottom m_at m_beside Wd R).2.2.1) ((mf_company m_top m_bottom m_at m_beside Wd R).2.2.2.1) m_taped m_size m_token m_from m_end m_value m_faultKind m_faultPlace m_faults m_seen m_depth m_counted m_lead m_round m_tried m_triedMany m_drawn m_ranSteps m_isTold m_marks m_at m_names m_sort m_trayMany m_trays m_tape m_text m_opened ((mf_company m_top m_bottom m_at m_beside Wd R).2.2.2.2) m_then m_ways m_further m_canBe m_loops m_ran m_told0) (va_A (mW G ad m_status m_top m_bottom m_taped m_size m_token m_from m_end m_value m_faultKind m_faultPlace m_faults m_seen m_depth m_counted m_lead m_round m_tried m_triedMany m_drawn m_ranSteps m_isTold m_marks m_at m_names m_sort m_trayMany m_trays m_tape m_text m_opened m_beside m_then m_ways m_further m_canBe m_loops m_ran m_told0) sz)) 0 0 (va_A (mW G ad m_status m_top m_bottom m_taped m_size m_token m_from m_end m_value m_faultKind m_faultPlace m_faults m_seen m_depth m_counted m_lead m_round m_tried m_triedMany m_drawn m_ranSteps m_isTold m_marks m_at m_names m_sort m_trayMany m_trays m_tape m_text m_opened m_beside m_then m_ways m_further m_canBe m_loops m_ran m_told0) sz) := by
  refine zr_entM (by decide) (Nat.le_of_ble_eq_true rfl) ?_
  intro p e s m below meth c ⟨hx, hb, hr, hml, hown, hts, hlocks, hnm⟩ ls hl hP hK A hE hA hD hS
  have hown : s.vm.findClass RX7 = some m.cls := hown
  have hl : lv_has ls 3 [(0, .ref (ad 0))] := hl
  obtain ⟨H, hH⟩ : ∃ H, H = s.heap := ⟨_, rfl⟩
  obtain ⟨locs, hlo⟩ : ∃ L : List Loc, L = [] := ⟨_, rfl⟩
  rw [← hH] at hP
  have hS : va_S A s.heap H locs := by rw [hH, hlo]; exact va_S.rf
  have hgo : W p l e (zR 4 0 0) s m ([.ref (ad 0)] : List Value).toArray below meth c H locs 0 0 (MQ below (zQm G (True) (some (.int (zb ((mf_company m_top m_bottom m_at m_beside Wd R).1)))) (mW G ad ((mf_company m_top m_bottom m_at m_beside Wd R).2.1) ((mf_company m_top m_bottom m_at m_beside Wd R).2.2.1) ((mf_company m_top m_bottom m_at m_beside Wd R).2.2.2.1) m_taped m_size m_token m_from m_end m_value m_faultKind m_faultPlace m_faults m_seen m_depth m_counted m_lead m_round m_tried m_triedMany m_drawn m_ranSteps m_isTold m_marks m_at m_names m_sort m_trayMany m_trays m_tape m_text m_opened ((mf_company m_top m_bottom m_at m_beside Wd R).2.2.2.2) m_then m_ways m_further m_canBe m_loops m_ran m_told0) A) ([.ref (ad 0)] : List Value).toArray s 0 0 A) (F0 m 0 ls []) := ?_
  · rw [hH, hlo] at hgo; exact hgo
  clear hH hlo
  have hWR := mOK_WR hG
  have hW0 := mOK_W0 hG
  have hW5 := mOK_W5 hG
  have hR0 := mOK_R0 hG
  have hR6 := mOK_R6 hG
  have hn4 := mOK_n4 hG
  have hc6 := mOK_c6 hG
  refine lv_aload_n hx hb dX7_company_0 rfl (lv_at hl 0 rfl) ?_
  refine va_get (D := G.1) (ci := 7) (v := .ref (ad 1)) (C := RX7) (T := TX7) (N := 39) hx hb hts in_X7 hown hK.1 hP 0 rfl rfl 0 (Nat.le_of_ble_eq_true rfl) (hts _ q1467) (fun _ h => h) rfl dX7_company_1 ?_
  refine lv_iconst (v := 3) hx hb dX7_company_4 (by decide) ?_
  refine zr_iald 3 (v := m_at 3) hx hb hK hP 1 rfl rfl (Nat.le_of_ble_eq_true rfl) rfl (by decide) rfl dX7_company_5 ?_
  refine lv_if_ne (tgt := 16) hx hb dX7_company_6 (by decide) (fun c_1 => ?_) (fun c_1 => ?_)
  · have hp3 := zpc_pos c_1
    refine lv_aload_n hx hb dX7_company_16 rfl (lv_at hl 0 rfl) ?_
    refine zr_muV (F := mf_laysNear m_at m_beside Wd R) (ff := fun t_2 => True) (rr := fun t_2 => none) (w1 := fun t_2 => (mW G ad m_status m_top m_bottom m_taped m_size m_token m_from m_end m_value m_faultKind m_faultPlace m_faults m_seen m_depth m_counted m_lead m_round m_tried m_triedMany m_drawn m_ranSteps m_isTold m_marks m_at m_names m_sort m_trayMany m_trays m_tape m_text m_opened t_2 m_then m_ways m_further m_canBe m_loops m_ran m_told0)) ⟨hx, hb, hml, hown, hts⟩ (mt_mf_laysNear l G ad m_status m_top m_bottom m_taped m_size m_token m_from m_end m_value m_faultKind m_faultPlace m_faults m_seen m_depth m_counted m_lead m_round m_tried m_triedMany m_drawn m_ranSteps m_isTold m_marks m_at m_names m_sort m_trayMany m_trays m_tape m_text m_opened m_beside m_then m_ways m_further m_canBe m_loops m_ran m_told0 Wd R nr nc hG H.size) (cwV 0 hts (lw_V q1889 q1891 qs105 q144 q1892) rfl rfl rfl hd_X7_laysNear ⟨(Nat.le_of_ble_eq_true rfl), (Nat.le_of_ble_eq_true rfl)⟩) hP hD hS hA hK hE 0 7 rfl rfl rfl hl.1 rfl (Nat.le_of_ble_eq_true rfl) dX7_company_17 ⟨Nat.le_refl _, Nat.le_refl _⟩ (fun t_2 ht_2 hft_2 H locs hP hD hS _ => ?_)
    refine W.eq (g2 := F0 m 20 ls []) rfl ?_
    refine lv_iconst (v := 0) hx hb dX7_company_20 (by decide) ?_
    refine lv_istore_n (lv' := [(1, .int 0), (0, .ref (ad 0))]) hx hb dX7_company_21 rfl hl (by decide) rfl (fun ls hl => ?_)
    refine lv_iconst (v := 0) hx hb dX7_company_22 (by decide) ?_
    refine lv_istore_n (lv' := [(2, .int 0), (1, .int 0), (0, .ref (ad 0))]) hx hb dX7_company_23 rfl hl (by decide) rfl (fun ls hl => ?_)
    have hlp_3 : ∀ (n k_3 : Nat) (s_3 : Nat), k_3 ≤ Wd * R → Wd * R < k_3 + n → zf (mf_company_B24 m_at Wd R t_2) 0 k_3 = s_3 → s_3 ≤ 32 * k_3 → ∀ (H : Heap) (locs : List Loc), va_P G.1 zcl (mW G ad m_status m_top m_bottom m_taped m_size m_token m_from m_end m_value m_faultKind m_faultPlace m_faults m_seen m_depth m_counted m_lead m_round m_tried m_triedMany m_drawn m_ranSteps m_isTold m_marks m_at m_names m_sort m_trayMany m_trays m_tape m_text m_opened t_2 m_then m_ways m_further m_canBe m_loops m_ran m_told0) H → va_D A (mW G ad m_status m_top m_bottom m_taped m_size m_token m_from m_end m_value m_faultKind m_faultPlace m_faults m_seen m_depth m_counted m_lead m_round m_tried m_triedMany m_drawn m_ranSteps m_isTold m_marks m_at m_names m_sort m_trayMany m_trays m_tape m_text m_opened t_2 m_then m_ways m_further m_canBe m_loops m_ran m_told0) → va_S A s.heap H locs → ∀ ls : Array Slot, lv_has ls 3 [(2, .int (nI k_3)), (1, .int (nI s_3)), (0, .ref (ad 0))] → W p l e (zR 4 0 0) s m ([.ref (ad 0)] : List Value).toArray below meth c H locs 0 0 (MQ below (zQm G (True) (some (.int (zb ((mf_company m_top m_bottom m_at m_beside Wd R).1)))) (mW G ad ((mf_company m_top m_bottom m_at m_beside Wd R).2.1) ((mf_company m_top m_bottom m_at m_beside Wd R).2.2.1) ((mf_company m_top m_bottom m_at m_beside Wd R).2.2.2.1) m_taped m_size m_token m_from m_end m_value m_faultKind m_faultPlace m_faults m_seen m_depth m_counted m_lead m_round m_tried m_triedMany m_drawn m_ranSteps m_isTold m_marks m_at m_names m_sort m_trayMany m_trays m_tape m_text m_opened ((mf_company m_top m_bottom m_at m_beside Wd R).2.2.2.2) m_then m_ways m_further m_canBe m_loops m_ran m_told0) A) ([.ref (ad 0)] : List Value).toArray s 0 0 A) (F0 m 24 ls []) := by
      intro n
      induction n with
      | zero => intro k_3 s_3 h1 h2; exact absurd h2 (by omega)
      | succ n ih_3 =>
        intro k_3 s_3 hk_3 hn_3 hst_3 hi1 H locs hP hD hS ls hl
        refine lv_iload_n hx hb dX7_company_24 rfl (lv_at hl 0 rfl) ?_
        refine lv_aload_n hx hb dX7_company_25 rfl (lv_at hl 2 rfl) ?_
        refine zr_obV ⟨hx, hb, hml, hown, hts⟩ (mt_mf_places l G ad m_status m_top m_bottom m_taped m_size m_token m_from m_end m_value m_faultKind m_faultPlace m_faults m_seen m_depth m_counted m_lead m_round m_tried m_triedMany m_drawn m_ranSteps m_isTold m_marks m_at m_names m_sort m_trayMany m_trays m_tape m_text m_opened t_2 m_then m_ways m_further m_canBe m_loops m_ran m_told0 Wd R nr nc hG) (cwV 0 hts (lw_V q1815 q1817 qs97 q144 q1818) rfl rfl rfl hd_X7_places ⟨(Nat.le_of_ble_eq_true rfl), (Nat.le_of_ble_eq_true rfl)⟩) hP hK (zE_o hE hS) 0 7 rfl rfl rfl hl.1 rfl (Nat.le_of_ble_eq_true rfl) dX7_company_26 ⟨Nat.le_refl _, Nat.le_refl _⟩ ?_
        refine zr_ge k_3 (Wd * R) (by omega) (by omega) (tgt := 75) hx hb dX7_company_29 (by decide) (fun c_3 => ?_) (fun c_3 => ?_)
        · have ek_3 : k_3 = Wd * R := Nat.le_antisymm hk_3 c_3
          have hs_3 : mf_company_L24 m_at Wd R t_2 0 = s_3 := by rw [ek_3] at hst_3; exact hst_3
          have hl := lv_sub hl (l' := _) [1, 2] rfl
          refine lv_aload_n hx hb dX7_company_75 rfl (lv_at hl 1 rfl) ?_
          refine lv_iload_n hx hb dX7_company_76 rfl (lv_at hl 0 rfl) ?_
          refine lv_i2l (v := lN s_3) hx hb dX7_company_77 (nI_l (by omega)) ?_
          refine lv_aload_n hx hb dX7_company_78 rfl (lv_at hl 1 rfl) ?_
          refine va_get (D := G.1) (ci := 7) (v := .ref (ad 1)) (C := RX7) (T := TX7) (N := 39) hx hb hts in_X7 hown hK.1 hP 0 rfl rfl 0 (Nat.le_of_ble_eq_true rfl) (hts _ q1467) (fun _ h => h) rfl dX7_company_79 ?_
          refine lv_iconst (v := 3) hx hb dX7_company_82 (by decide) ?_
          refine zr_iald 3 (v := m_at 3) hx hb hK hP 1 rfl rfl (Nat.le_of_ble_eq_true rfl) rfl (by decide) rfl dX7_company_83 ?_
          have hbl_1 := zpc_le ((m_at 3))
          refine zr_puS ⟨hx, hb, hml, hown, hts⟩ (mt_bitsN l (m_at 3)) (va_cwS 1 hts (lw_S q1744 q1745 q144 q1746) rfl rfl rfl hd_X7_bits.2 ⟨(Nat.le_of_ble_eq_true rfl), (Nat.le_of_ble_eq_true rfl)⟩) rfl hl.1 rfl (Nat.le_of_ble_eq_true rfl) dX7_company_84 ⟨Nat.le_refl _, Nat.le_refl _⟩ ?_
          refine lv_i2l (v := lN (zpc (m_at 3))) hx hb dX7_company_87 (nI_l (by omega)) ?_
          refine zr_muV (F := mf_tellsBy s_3 (zpc (m_at 3))) (ff := fun t_5 => True) (rr := fun t_5 => some (.int (zb t_5.1))) (w1 := fun t_5 => (mW G ad t_5.2.1 t_5.2.2.1 t_5.2.2.2 m_taped m_size m_token m_from m_end m_value m_faultKind m_faultPlace m_faults m_seen m_depth m_counted m_lead m_round m_tried m_triedMany m_drawn m_ranSteps m_isTold m_marks m_at m_names m_sort m_trayMany m_trays m_tape m_text m_opened t_2 m_then m_ways m_further m_canBe m_loops m_ran m_told0)) ⟨hx, hb, hml, hown, hts⟩ (mt_mf_tellsBy l G ad m_status m_top m_bottom m_taped m_size m_token m_from m_end m_value m_faultKind m_faultPlace m_faults m_seen m_depth m_counted m_lead m_round m_tried m_triedMany m_drawn m_ranSteps m_isTold m_marks m_at m_names m_sort m_trayMany m_trays m_tape m_text m_opened t_2 m_then m_ways m_further m_canBe m_loops m_ran m_told0 s_3 (zpc (m_at 3)) (by first | assumption | exact hdd | omega) (by omega) (by omega) H.size) (cwV 2 hts (lw_V q2098 q2100 qs125 q144 q2101) rfl rfl rfl hd_X7_tellsBy ⟨(Nat.le_of_ble_eq_true rfl), (Nat.le_of_ble_eq_true rfl)⟩) hP hD hS hA hK hE 0 7 rfl rfl rfl hl.1 rfl (Nat.le_of_ble_eq_true rfl) dX7_company_88 ⟨Nat.le_refl _, Nat.le_refl _⟩ (fun t_5 ht_5 hft_5 H locs hP hD hS _ => ?_)
          refine W.eq (g2 := F0 m 91 ls [.int (zb t_5.1)]) rfl ?_
          have e_ : mf_company m_top m_bottom m_at m_beside Wd R = (t_5.1, t_5.2.1, t_5.2.2.1, t_5.2.2.2, t_2) := by rw [mf_company, if_neg c_1, zlet_eq ht_2, zlet_eq hs_3, zlet_eq ht_5]
          exact zr_mz hx hb hr hlocks hP hD hS dX7_company_91 zb_nar (by rw [e_]) (by rw [e_]) trivial
        · have hlt_3 : k_3 < Wd * R := Nat.lt_of_not_le c_3
          refine lv_iload_n hx hb dX7_company_32 rfl (lv_at hl 1 rfl) ?_
          refine lv_aload_n hx hb dX7_company_33 rfl (lv_at hl 2 rfl) ?_
          refine va_get (D := G.1) (ci := 7) (v := .ref (ad 1)) (C := RX7) (T := TX7) (N := 39) hx hb hts in_X7 hown hK.1 hP 0 rfl rfl 0 (Nat.le_of_ble_eq_true rfl) (hts _ q1467) (fun _ h => h) rfl dX7_company_34 ?_
          refine lv_iconst (v := 3) hx hb dX7_company_37 (by decide) ?_
          refine zr_iald 3 (v := m_at 3) hx hb hK hP 1 rfl rfl (Nat.le_of_ble_eq_true rfl) rfl (by decide) rfl dX7_company_38 ?_
          refine lv_iload_n hx hb dX7_company_39 rfl (lv_at hl 0 rfl) ?_
          refine lv_ishr hx hb dX7_company_40 ?_
          refine lv_iconst (v := 1) hx hb dX7_company_41 (by decide) ?_
          refine lv_iand hx hb dX7_company_42 ?_
          refine lv_iconst (v := 1) hx hb dX7_company_43 (by decide) ?_
          refine lv_icmp_ne (tgt := 66) hx hb dX7_company_44 (by decide) (fun c_4 => ?_) (fun c_4 => ?_)
          · refine lv_iconst (v := 0) hx hb dX7_company_66 (by decide) ?_
            refine zr_iaddN s_3 0 hx hb dX7_company_67 ?_
            refine zr_val (v' := .int (nI s_3)) (by rfl) ?_
            refine lv_istore_n (lv' := [(1, .int (nI s_3)), (2, .int (nI k_3)), (0, .ref (ad 0))]) hx hb dX7_company_68 rfl hl (by decide) rfl (fun ls hl => ?_)
            refine lv_iinc (v := nI (k_3 + 1)) (lv' := [(2, .int (nI (k_3 + 1))), (1, .int (nI s_3)), (0, .ref (ad 0))]) hx hb dX7_company_69 hl (k := 1) rfl (nI_add k_3 1) (by decide) rfl (fun ls hl => ?_)
            refine lv_goto (tgt := 24) hx hb dX7_company_72 (by decide) ?_
            exact ih_3 (k_3 + 1) s_3 hlt_3 (by omega) (zf_s hst_3 (by rw [mf_company_B24, if_neg c_4])) (by omega) H locs hP hD hS ls (lv_sub hl [0, 1, 2] rfl)
          · refine lv_aload_n hx hb dX7_company_47 rfl (lv_at hl 2 rfl) ?_
            refine va_get (D := G.1) (ci := 7) (v := .ref (ad 9)) (C := RX7) (T := TX7) (N := 39) hx hb hts in_X7 hown hK.1 hP 0 rfl rfl 23 (Nat.le_of_ble_eq_true rfl) (hts _ q1490) (fun _ h => h) rfl dX7_company_48 ?_
            refine lv_iload_n hx hb dX7_company_51 rfl (lv_at hl 0 rfl) ?_
            refine zr_iald k_3 (v := t_2 k_3) hx hb hK hP 9 rfl rfl (Nat.le_of_ble_eq_true rfl) rfl (by omega) rfl dX7_company_52 ?_
            refine lv_aload_n hx hb dX7_company_53 rfl (lv_at hl 2 rfl) ?_
            refine va_get (D := G.1) (ci := 7) (v := .ref (ad 1)) (C := RX7) (T := TX7) (N := 39) hx hb hts in_X7 hown hK.1 hP 0 rfl rfl 0 (Nat.le_of_ble_eq_true rfl) (hts _ q1467) (fun _ h => h) rfl dX7_company_54 ?_
            refine lv_iconst (v := 3) hx hb dX7_company_57 (by decide) ?_
            refine zr_iald 3 (v := m_at 3) hx hb hK hP 1 rfl rfl (Nat.le_of_ble_eq_true rfl) rfl (by decide) rfl dX7_company_58 ?_
            refine lv_iand hx hb dX7_company_59 ?_
            have hbl_0 := zpc_le (((t_2 k_3) &&& (m_at 3)))
            refine zr_puS ⟨hx, hb, hml, hown, hts⟩ (mt_bitsN l ((t_2 k_3) &&& (m_at 3))) (va_cwS 1 hts (lw_S q1744 q1745 q144 q1746) rfl rfl rfl hd_X7_bits.2 ⟨(Nat.le_of_ble_eq_true rfl), (Nat.le_of_ble_eq_true rfl)⟩) rfl hl.1 rfl (Nat.le_of_ble_eq_true rfl) dX7_company_60 ⟨Nat.le_refl _, Nat.le_refl _⟩ ?_
            refine lv_goto (tgt := 67) hx hb dX7_company_63 (by decide) ?_
            refine zr_iaddN s_3 (zpc ((t_2 k_3) &&& (m_at 3))) hx hb dX7_company_67 ?_
            refine lv_istore_n (lv' := [(1, .int (nI (s_3 + (zpc ((t_2 k_3) &&& (m_at 3)))))), (2, .int (nI k_3)), (0, .ref (ad 0))]) hx hb dX7_company_68 rfl hl (by decide) rfl (fun ls hl => ?_)
            refine lv_iinc (v := nI (k_3 + 1)) (lv' := [(2, .int (nI (k_3 + 1))), (1, .int (nI (s_3 + (zpc ((t_2 k_3) &&& (m_at 3)))))), (0, .ref (ad 0))]) hx hb dX7_company_69 hl (k := 1) rfl (nI_add k_3 1) (by decide) rfl (fun ls hl => ?_)
            refine lv_goto (tgt := 24) hx hb dX7_company_72 (by decide) ?_
            exact ih_3 (k_3 + 1) (s_3 + (zpc ((t_2 k_3) &&& (m_at 3)))) hlt_3 (by omega) (zf_s hst_3 (by rw [mf_company_B24, if_pos c_4])) (by omega) H locs hP hD hS ls (lv_sub hl [0, 1, 2] rfl)
    exact hlp_3 ((Wd * R) + 1) 0 0 (Nat.zero_le _) (by omega) rfl (by omega) H locs hP hD hS ls (lv_sub hl [0, 1, 2] rfl)
  · refine lv_aload_n hx hb dX7_company_9 rfl (lv_at hl 0 rfl) ?_
    refine lv_bipush (v := 6) hx hb dX7_company_10 (by decide) ?_
    refine zr_muV (F := ()) (ff := fun _ => True) (rr := fun _ => some (.int (zb (decide ((6 : Int32) = 0))))) (w1 := fun _ => (mW G ad 6 m_top m_bottom m_taped m_size m_token m_from m_end m_value m_faultKind m_faultPlace m_faults m_seen m_depth m_counted m_lead m_round m_tried m_triedMany m_drawn m_ranSteps m_isTold m_marks m_at m_names m_sort m_trayMany m_trays m_tape m_text m_opened m_beside m_then m_ways m_further m_canBe m_loops m_ran m_told0)) ⟨hx, hb, hml, hown, hts⟩ (mt_mf_is l G ad m_status m_top m_bottom m_taped m_size m_token m_from m_end m_value m_faultKind m_faultPlace m_faults m_seen m_depth m_counted m_lead m_round m_tried m_triedMany m_drawn m_ranSteps m_isTold m_marks m_at m_names m_sort m_trayMany m_trays m_tape m_text m_opened m_beside m_then m_ways m_further m_canBe m_loops m_ran m_told0 6 H.size) (cwV 1 hts (lw_V q1604 q1606 qs60 q144 q1607) rfl rfl rfl hd_X7_is ⟨(Nat.le_of_ble_eq_true rfl), (Nat.le_of_ble_eq_true rfl)⟩) hP hD hS hA hK hE 0 7 rfl rfl rfl hl.1 rfl (Nat.le_of_ble_eq_true rfl) dX7_company_12 ⟨Nat.le_refl _, Nat.le_refl _⟩ (fun _ _ _ H locs hP hD hS _ => ?_)
    refine W.eq (g2 := F0 m 15 ls [.int (zb (decide ((6 : Int32) = 0)))]) rfl ?_
    refine zr_val (v' := .int 0) (congrArg Value.int (by decide)) ?_
    have e_ : mf_company m_top m_bottom m_at m_beside Wd R = (false, 6, m_top, m_bottom, m_beside) := by rw [mf_company, if_pos c_1]
    exact zr_mz hx hb hr hlocks hP hD hS dX7_company_15 rfl (by rw [e_]; rfl) (by rw [e_]) trivial
