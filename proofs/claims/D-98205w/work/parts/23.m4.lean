def mf_again (m_lead : Int32) (m_round : Int32) (m_at : Nat → Int32) (m_beside : Nat → Int32) (m_then : Nat → Int32) (Wd : Nat) (R : Nat) (what : Int32) : Int32 × Int32 × Int32 × Int32 × (Nat → Int32) × (Nat → Int32) :=
  (if what < 0 then
    ((-1), 1, m_lead, m_round, m_beside, m_then)
  else
    (if what ≤ 1 then
      zlet (mf_comesAgain m_lead m_round m_at m_beside m_then Wd R) (fun t_4 =>
      (if t_4.1 = true then
        (if what = 0 then
          (t_4.2.1, 0, t_4.2.1, t_4.2.2.1, t_4.2.2.2.1, t_4.2.2.2.2)
        else
          (t_4.2.2.1, 0, t_4.2.1, t_4.2.2.1, t_4.2.2.2.1, t_4.2.2.2.2))
      else
        ((-1), 7, t_4.2.1, t_4.2.2.1, t_4.2.2.2.1, t_4.2.2.2.2)))
    else
      ((-1), 1, m_lead, m_round, m_beside, m_then)))
theorem hd_X7_again : yX7_again.cls = RX7 ∧ yX7_again.cls ≠ "java/lang/invoke/MethodHandle" ∧ yX7_again.cls ≠ "java/lang/invoke/VarHandle" ∧ (parseMethodDescriptor yX7_again.desc).map (fun d => d.parameters.length) = some 1 := by decide +kernel
set_option maxHeartbeats 4000000 in
set_option maxRecDepth 100000 in
theorem mt_mf_again (l : Launch) (G : zG) (ad : Nat → Nat) (m_status : Int32) (m_top : Int64) (m_bottom : Int64) (m_taped : Int32) (m_size : Int32) (m_token : Int32) (m_from : Int32) (m_end : Int32) (m_value : Int32) (m_faultKind : Int32) (m_faultPlace : Int32) (m_faults : Int32) (m_seen : Int32) (m_depth : Int32) (m_counted : Int32) (m_lead : Int32) (m_round : Int32) (m_tried : Int32) (m_triedMany : Int32) (m_drawn : Int32) (m_ranSteps : Int32) (m_isTold : Bool) (m_marks : Int32) (m_at : Nat → Int32) (m_names : Nat → Int64) (m_sort : Nat → Int32) (m_trayMany : Nat → Int32) (m_trays : Nat → Int64) (m_tape : Nat → Int32) (m_text : Nat → Int32) (m_opened : Nat → Int32) (m_beside : Nat → Int32) (m_then : Nat → Int32) (m_ways : Nat → Int64) (m_further : Nat → Int64) (m_canBe : Nat → Int32) (m_loops : Nat → Int32) (m_ran : Nat → Int32) (m_told0 : Nat → Int32) (Wd : Nat) (R : Nat) (nr : Nat) (nc : Nat) (what : Int32) (hG : mOK m_at Wd R nr nc) (sz : Nat) : Met l yX7_again (ws_ yX7_again cX7_again 2 (some .int)) (zR 5 0 0) (zPm G sz [.ref (ad 0), .int what] (mW G ad m_status m_top m_bottom m_taped m_size m_token m_from m_end m_value m_faultKind m_faultPlace m_faults m_seen m_depth m_counted m_lead m_round m_tried m_triedMany m_drawn m_ranSteps m_isTold m_marks m_at m_names m_sort m_trayMany m_trays m_tape m_text m_opened m_beside m_then m_ways m_further m_canBe m_loops m_ran m_told0)) (zQm G (True) (some (.int ((mf_again m_lead m_round m_at m_beside m_then Wd R what).1))) (mW G ad ((mf_again m_lead m_round m_at m_beside m_then Wd R what).2.1) m_top m_bottom m_taped m_size m_token m_from m_end m_value m_faultKind m_faultPlace m_faults m_seen m_depth m_counted ((mf_again m_lead m_round m_at m_beside m_then Wd R what).2.2.1) ((mf_again m_lead m_round m_at m_beside m_then Wd R what).2.2.2.1) m_tried m_triedMany m_drawn m_ranSteps m_isTold m_marks m_at m_names m_sort m_trayMany m_trays m_tape m_text m_opened ((mf_again m_lead m_round m_at m_beside m_then Wd R what).2.2.2.2.1) ((mf_again m_lead m_round m_at m_beside m_then Wd R what).2.2.2.2.2) m_ways m_further m_canBe m_loops m_ran m_told0) (va_A (mW G ad m_status m_top m_bottom m_taped m_size m_token m_from m_end m_value m_faultKind m_faultPlace m_faults m_seen m_depth m_counted m_lead m_round m_tried m_triedMany m_drawn m_ranSteps m_isTold m_marks m_at m_names m_sort m_trayMany m_trays m_tape m_text m_opened m_beside m_then m_ways m_further m_canBe m_loops m_ran m_told0) sz)) 0 0 (va_A (mW G ad m_status m_top m_bottom m_taped m_size m_token m_from m_end m_value m_faultKind m_faultPlace m_faults m_seen m_depth m_counted m_lead m_round m_tried m_triedMany m_drawn m_ranSteps m_isTold m_marks m_at m_names m_sort m_trayMany m_trays m_tape m_text m_opened m_beside m_then m_ways m_further m_canBe m_loops m_ran m_told0) sz) := by
  refine zr_entM (by decide) (Nat.le_of_ble_eq_true rfl) ?_
  intro p e s m below meth c ⟨hx, hb, hr, hml, hown, hts, hlocks, hnm⟩ ls hl hP hK A hE hA hD hS
  have hown : s.vm.findClass RX7 = some m.cls := hown
  have hl : lv_has ls 2 [(0, .ref (ad 0)), (1, .int what)] := hl
  obtain ⟨H, hH⟩ : ∃ H, H = s.heap := ⟨_, rfl⟩
  obtain ⟨locs, hlo⟩ : ∃ L : List Loc, L = [] := ⟨_, rfl⟩
  rw [← hH] at hP
  have hS : va_S A s.heap H locs := by rw [hH, hlo]; exact va_S.rf
  have hgo : W p l e (zR 5 0 0) s m ([.ref (ad 0), .int what] : List Value).toArray below meth c H locs 0 0 (MQ below (zQm G (True) (some (.int ((mf_again m_lead m_round m_at m_beside m_then Wd R what).1))) (mW G ad ((mf_again m_lead m_round m_at m_beside m_then Wd R what).2.1) m_top m_bottom m_taped m_size m_token m_from m_end m_value m_faultKind m_faultPlace m_faults m_seen m_depth m_counted ((mf_again m_lead m_round m_at m_beside m_then Wd R what).2.2.1) ((mf_again m_lead m_round m_at m_beside m_then Wd R what).2.2.2.1) m_tried m_triedMany m_drawn m_ranSteps m_isTold m_marks m_at m_names m_sort m_trayMany m_trays m_tape m_text m_opened ((mf_again m_lead m_round m_at m_beside m_then Wd R what).2.2.2.2.1) ((mf_again m_lead m_round m_at m_beside m_then Wd R what).2.2.2.2.2) m_ways m_further m_canBe m_loops m_ran m_told0) A) ([.ref (ad 0), .int what] : List Value).toArray s 0 0 A) (F0 m 0 ls []) := ?_
  · rw [hH, hlo] at hgo; exact hgo
  clear hH hlo
  have hWR := mOK_WR hG
  have hW0 := mOK_W0 hG
  have hW5 := mOK_W5 hG
  have hR0 := mOK_R0 hG
  have hR6 := mOK_R6 hG
  have hn4 := mOK_n4 hG
  have hc6 := mOK_c6 hG
  refine lv_iload_n hx hb dX7_again_0 rfl (lv_at hl 1 rfl) ?_
  refine lv_if_lt (tgt := 9) hx hb dX7_again_1 (by decide) (fun c_1 => ?_) (fun c_1 => ?_)
  · refine lv_aload_n hx hb dX7_again_9 rfl (lv_at hl 0 rfl) ?_
    refine lv_iconst (v := 1) hx hb dX7_again_10 (by decide) ?_
    refine zr_muV (F := ()) (ff := fun _ => True) (rr := fun _ => some (.int (-1))) (w1 := fun _ => (mW G ad 1 m_top m_bottom m_taped m_size m_token m_from m_end m_value m_faultKind m_faultPlace m_faults m_seen m_depth m_counted m_lead m_round m_tried m_triedMany m_drawn m_ranSteps m_isTold m_marks m_at m_names m_sort m_trayMany m_trays m_tape m_text m_opened m_beside m_then m_ways m_further m_canBe m_loops m_ran m_told0)) ⟨hx, hb, hml, hown, hts⟩ (mt_mf_refuse l G ad m_status m_top m_bottom m_taped m_size m_token m_from m_end m_value m_faultKind m_faultPlace m_faults m_seen m_depth m_counted m_lead m_round m_tried m_triedMany m_drawn m_ranSteps m_isTold m_marks m_at m_names m_sort m_trayMany m_trays m_tape m_text m_opened m_beside m_then m_ways m_further m_canBe m_loops m_ran m_told0 1 H.size) (cwV 1 hts (lw_V q1666 q1668 qs66 q144 q1669) rfl rfl rfl hd_X7_refuse ⟨(Nat.le_of_ble_eq_true rfl), (Nat.le_of_ble_eq_true rfl)⟩) hP hD hS hA hK hE 0 7 rfl rfl rfl hl.1 rfl (Nat.le_of_ble_eq_true rfl) dX7_again_11 ⟨Nat.le_refl _, Nat.le_refl _⟩ (fun _ _ _ H locs hP hD hS _ => ?_)
    refine W.eq (g2 := F0 m 14 ls [.int (-1)]) rfl ?_
    have e_ : mf_again m_lead m_round m_at m_beside m_then Wd R what = ((-1), 1, m_lead, m_round, m_beside, m_then) := by rw [mf_again, if_pos c_1]
    exact zr_mi hx hb hr hlocks hP hD hS dX7_again_14 (by rw [e_])  (by rw [e_]) trivial
  · refine lv_iload_n hx hb dX7_again_4 rfl (lv_at hl 1 rfl) ?_
    refine lv_iconst (v := 1) hx hb dX7_again_5 (by decide) ?_
    refine lv_icmp_le (tgt := 15) hx hb dX7_again_6 (by decide) (fun c_3 => ?_) (fun c_3 => ?_)
    · refine lv_aload_n hx hb dX7_again_15 rfl (lv_at hl 0 rfl) ?_
      refine zr_muV (F := mf_comesAgain m_lead m_round m_at m_beside m_then Wd R) (ff := fun t_4 => (t_4.1 = true → (¬ t_4.2.1 < 0 ∧ ¬ t_4.2.2.1 < 0 ∧ 1 ≤ (t_4.2.2.1).toNatClampNeg ∧ (t_4.2.1).toNatClampNeg + (t_4.2.2.1).toNatClampNeg ≤ 2000))) (rr := fun t_4 => some (.int (zb t_4.1))) (w1 := fun t_4 => (mW G ad m_status m_top m_bottom m_taped m_size m_token m_from m_end m_value m_faultKind m_faultPlace m_faults m_seen m_depth m_counted t_4.2.1 t_4.2.2.1 m_tried m_triedMany m_drawn m_ranSteps m_isTold m_marks m_at m_names m_sort m_trayMany m_trays m_tape m_text m_opened t_4.2.2.2.1 t_4.2.2.2.2 m_ways m_further m_canBe m_loops m_ran m_told0)) ⟨hx, hb, hml, hown, hts⟩ (mt_mf_comesAgain l G ad m_status m_top m_bottom m_taped m_size m_token m_from m_end m_value m_faultKind m_faultPlace m_faults m_seen m_depth m_counted m_lead m_round m_tried m_triedMany m_drawn m_ranSteps m_isTold m_marks m_at m_names m_sort m_trayMany m_trays m_tape m_text m_opened m_beside m_then m_ways m_further m_canBe m_loops m_ran m_told0 Wd R nr nc hG H.size) (cwV 0 hts (lw_V q1909 q1911 qs108 q144 q1912) rfl rfl rfl hd_X7_comesAgain ⟨(Nat.le_of_ble_eq_true rfl), (Nat.le_of_ble_eq_true rfl)⟩) hP hD hS hA hK hE 0 7 rfl rfl rfl hl.1 rfl (Nat.le_of_ble_eq_true rfl) dX7_again_16 ⟨Nat.le_refl _, Nat.le_refl _⟩ (fun t_4 ht_4 hft_4 H locs hP hD hS _ => ?_)
      refine W.eq (g2 := F0 m 19 ls [.int (zb t_4.1)]) rfl ?_
      have hca_t_4 := hft_4
      refine zr_eqB t_4.1 (tgt := 44) hx hb dX7_again_19 (by decide) (fun c_5 => ?_) (fun c_5 => ?_)
      · refine lv_aload_n hx hb dX7_again_44 rfl (lv_at hl 0 rfl) ?_
        refine lv_bipush (v := 7) hx hb dX7_again_45 (by decide) ?_
        refine zr_muV (F := ()) (ff := fun _ => True) (rr := fun _ => some (.int (-1))) (w1 := fun _ => (mW G ad 7 m_top m_bottom m_taped m_size m_token m_from m_end m_value m_faultKind m_faultPlace m_faults m_seen m_depth m_counted t_4.2.1 t_4.2.2.1 m_tried m_triedMany m_drawn m_ranSteps m_isTold m_marks m_at m_names m_sort m_trayMany m_trays m_tape m_text m_opened t_4.2.2.2.1 t_4.2.2.2.2 m_ways m_further m_canBe m_loops m_ran m_told0)) ⟨hx, hb, hml, hown, hts⟩ (mt_mf_refuse l G ad m_status m_top m_bottom m_taped m_size m_token m_from m_end m_value m_faultKind m_faultPlace m_faults m_seen m_depth m_counted t_4.2.1 t_4.2.2.1 m_tried m_triedMany m_drawn m_ranSteps m_isTold m_marks m_at m_names m_sort m_trayMany m_trays m_tape m_text m_opened t_4.2.2.2.1 t_4.2.2.2.2 m_ways m_further m_canBe m_loops m_ran m_told0 7 H.size) (cwV 1 hts (lw_V q1666 q1668 qs66 q144 q1669) rfl rfl rfl hd_X7_refuse ⟨(Nat.le_of_ble_eq_true rfl), (Nat.le_of_ble_eq_true rfl)⟩) hP hD hS hA hK hE 0 7 rfl rfl rfl hl.1 rfl (Nat.le_of_ble_eq_true rfl) dX7_again_47 ⟨Nat.le_refl _, Nat.le_refl _⟩ (fun _ _ _ H locs hP hD hS _ => ?_)
        refine W.eq (g2 := F0 m 50 ls [.int (-1)]) rfl ?_
        have e_ : mf_again m_lead m_round m_at m_beside m_then Wd R what = ((-1), 7, t_4.2.1, t_4.2.2.1, t_4.2.2.2.1, t_4.2.2.2.2) := by rw [mf_again, if_neg c_1, if_pos c_3, zlet_eq ht_4, if_neg c_5]
        exact zr_mi hx hb hr hlocks hP hD hS dX7_again_50 (by rw [e_])  (by rw [e_]) trivial
      · refine lv_aload_n hx hb dX7_again_22 rfl (lv_at hl 0 rfl) ?_
        refine lv_iload_n hx hb dX7_again_23 rfl (lv_at hl 1 rfl) ?_
        refine lv_if_ne (tgt := 34) hx hb dX7_again_24 (by decide) (fun c_7 => ?_) (fun c_7 => ?_)
        · refine lv_aload_n hx hb dX7_again_34 rfl (lv_at hl 0 rfl) ?_
          refine va_get (D := G.1) (ci := 7) (v := .int t_4.2.2.1) (C := RX7) (T := TX7) (N := 39) hx hb hts in_X7 hown hK.1 hP 0 rfl rfl 26 (Nat.le_of_ble_eq_true rfl) (hts _ q1493) (fun _ h => h) rfl dX7_again_35 ?_
          refine zr_muV (F := ()) (ff := fun _ => True) (rr := fun _ => some (.int t_4.2.2.1)) (w1 := fun _ => (mW G ad 0 m_top m_bottom m_taped m_size m_token m_from m_end m_value m_faultKind m_faultPlace m_faults m_seen m_depth m_counted t_4.2.1 t_4.2.2.1 m_tried m_triedMany m_drawn m_ranSteps m_isTold m_marks m_at m_names m_sort m_trayMany m_trays m_tape m_text m_opened t_4.2.2.2.1 t_4.2.2.2.2 m_ways m_further m_canBe m_loops m_ran m_told0)) ⟨hx, hb, hml, hown, hts⟩ (mt_mf_gives l G ad m_status m_top m_bottom m_taped m_size m_token m_from m_end m_value m_faultKind m_faultPlace m_faults m_seen m_depth m_counted t_4.2.1 t_4.2.2.1 m_tried m_triedMany m_drawn m_ranSteps m_isTold m_marks m_at m_names m_sort m_trayMany m_trays m_tape m_text m_opened t_4.2.2.2.1 t_4.2.2.2.2 m_ways m_further m_canBe m_loops m_ran m_told0 t_4.2.2.1 H.size) (cwV 1 hts (lw_V q1751 q1753 qs85 q144 q1754) rfl rfl rfl hd_X7_gives ⟨(Nat.le_of_ble_eq_true rfl), (Nat.le_of_ble_eq_true rfl)⟩) hP hD hS hA hK hE 0 7 rfl rfl rfl hl.1 rfl (Nat.le_of_ble_eq_true rfl) dX7_again_38 ⟨Nat.le_refl _, Nat.le_refl _⟩ (fun _ _ _ H locs hP hD hS _ => ?_)
          refine W.eq (g2 := F0 m 41 ls [.int t_4.2.2.1]) rfl ?_
          refine lv_goto (tgt := 50) hx hb dX7_again_41 (by decide) ?_
          have e_ : mf_again m_lead m_round m_at m_beside m_then Wd R what = (t_4.2.2.1, 0, t_4.2.1, t_4.2.2.1, t_4.2.2.2.1, t_4.2.2.2.2) := by rw [mf_again, if_neg c_1, if_pos c_3, zlet_eq ht_4, if_pos c_5, if_neg c_7]
          exact zr_mi hx hb hr hlocks hP hD hS dX7_again_50 (by rw [e_])  (by rw [e_]) trivial
        · refine lv_aload_n hx hb dX7_again_27 rfl (lv_at hl 0 rfl) ?_
          refine va_get (D := G.1) (ci := 7) (v := .int t_4.2.1) (C := RX7) (T := TX7) (N := 39) hx hb hts in_X7 hown hK.1 hP 0 rfl rfl 25 (Nat.le_of_ble_eq_true rfl) (hts _ q1492) (fun _ h => h) rfl dX7_again_28 ?_
          refine lv_goto (tgt := 38) hx hb dX7_again_31 (by decide) ?_
          refine zr_muV (F := ()) (ff := fun _ => True) (rr := fun _ => some (.int t_4.2.1)) (w1 := fun _ => (mW G ad 0 m_top m_bottom m_taped m_size m_token m_from m_end m_value m_faultKind m_faultPlace m_faults m_seen m_depth m_counted t_4.2.1 t_4.2.2.1 m_tried m_triedMany m_drawn m_ranSteps m_isTold m_marks m_at m_names m_sort m_trayMany m_trays m_tape m_text m_opened t_4.2.2.2.1 t_4.2.2.2.2 m_ways m_further m_canBe m_loops m_ran m_told0)) ⟨hx, hb, hml, hown, hts⟩ (mt_mf_gives l G ad m_status m_top m_bottom m_taped m_size m_token m_from m_end m_value m_faultKind m_faultPlace m_faults m_seen m_depth m_counted t_4.2.1 t_4.2.2.1 m_tried m_triedMany m_drawn m_ranSteps m_isTold m_marks m_at m_names m_sort m_trayMany m_trays m_tape m_text m_opened t_4.2.2.2.1 t_4.2.2.2.2 m_ways m_further m_canBe m_loops m_ran m_told0 t_4.2.1 H.size) (cwV 1 hts (lw_V q1751 q1753 qs85 q144 q1754) rfl rfl rfl hd_X7_gives ⟨(Nat.le_of_ble_eq_true rfl), (Nat.le_of_ble_eq_true rfl)⟩) hP hD hS hA hK hE 0 7 rfl rfl rfl hl.1 rfl (Nat.le_of_ble_eq_true rfl) dX7_again_38 ⟨Nat.le_refl _, Nat.le_refl _⟩ (fun _ _ _ H locs hP hD hS _ => ?_)
          refine W.eq (g2 := F0 m 41 ls [.int t_4.2.1]) rfl ?_
          refine lv_goto (tgt := 50) hx hb dX7_again_41 (by decide) ?_
          have e_ : mf_again m_lead m_round m_at m_beside m_then Wd R what = (t_4.2.1, 0, t_4.2.1, t_4.2.2.1, t_4.2.2.2.1, t_4.2.2.2.2) := by rw [mf_again, if_neg c_1, if_pos c_3, zlet_eq ht_4, if_pos c_5, if_pos c_7]
          exact zr_mi hx hb hr hlocks hP hD hS dX7_again_50 (by rw [e_])  (by rw [e_]) trivial
    · refine lv_aload_n hx hb dX7_again_9 rfl (lv_at hl 0 rfl) ?_
      refine lv_iconst (v := 1) hx hb dX7_again_10 (by decide) ?_
      refine zr_muV (F := ()) (ff := fun _ => True) (rr := fun _ => some (.int (-1))) (w1 := fun _ => (mW G ad 1 m_top m_bottom m_taped m_size m_token m_from m_end m_value m_faultKind m_faultPlace m_faults m_seen m_depth m_counted m_lead m_round m_tried m_triedMany m_drawn m_ranSteps m_isTold m_marks m_at m_names m_sort m_trayMany m_trays m_tape m_text m_opened m_beside m_then m_ways m_further m_canBe m_loops m_ran m_told0)) ⟨hx, hb, hml, hown, hts⟩ (mt_mf_refuse l G ad m_status m_top m_bottom m_taped m_size m_token m_from m_end m_value m_faultKind m_faultPlace m_faults m_seen m_depth m_counted m_lead m_round m_tried m_triedMany m_drawn m_ranSteps m_isTold m_marks m_at m_names m_sort m_trayMany m_trays m_tape m_text m_opened m_beside m_then m_ways m_further m_canBe m_loops m_ran m_told0 1 H.size) (cwV 1 hts (lw_V q1666 q1668 qs66 q144 q1669) rfl rfl rfl hd_X7_refuse ⟨(Nat.le_of_ble_eq_true rfl), (Nat.le_of_ble_eq_true rfl)⟩) hP hD hS hA hK hE 0 7 rfl rfl rfl hl.1 rfl (Nat.le_of_ble_eq_true rfl) dX7_again_11 ⟨Nat.le_refl _, Nat.le_refl _⟩ (fun _ _ _ H locs hP hD hS _ => ?_)
      refine W.eq (g2 := F0 m 14 ls [.int (-1)]) rfl ?_
      have e_ : mf_again m_lead m_round m_at m_beside m_then Wd R what = ((-1), 1, m_lead, m_round, m_beside, m_then) := by rw [mf_again, if_neg c_1, if_neg c_3]
      exact zr_mi hx hb hr hlocks hP hD hS dX7_again_14 (by rw [e_])  (by rw [e_]) trivial
def mf_far (m_lead : Int32) (m_round : Int32) (m_at : Nat → Int32) (m_beside : Nat → Int32) (m_then : Nat → Int32) (Wd : Nat) (R : Nat) (nights : Int32) : Int64 × Int32 × Int32 × Int32 × (Nat → Int32) × (Nat → Int32) :=
  (if (mf_isFrom nights.toInt64 0 999999999) = true then
    zlet (mf_comesAgain m_lead m_round m_at m_beside m_then Wd R) (fun t_2 =>
    (if t_2.1 = true then
      (if t_2.2.1.toNatClampNeg ≤ nights.toNatClampNeg then
        ((t_2.2.2.2.2 (t_2.2.1.toNatClampNeg + ((nights.toNatClampNeg - t_2.2.1.toNatClampNeg) % t_2.2.2.1.toNatClampNeg))).toInt64, 0, t_2.2.1, t_2.2.2.1, t_2.2.2.2.1, t_2.2.2.2.2)
      else
        ((t_2.2.2.2.2 nights.toNatClampNeg).toInt64, 0, t_2.2.1, t_2.2.2.1, t_2.2.2.2.1, t_2.2.2.2.2))
    else
      ((-1), 7, t_2.2.1, t_2.2.2.1, t_2.2.2.2.1, t_2.2.2.2.2)))
  else
    ((-1), 1, m_lead, m_round, m_beside, m_then))
theorem hd_X7_far : yX7_far.cls = RX7 ∧ yX7_far.cls ≠ "java/lang/invoke/MethodHandle" ∧ yX7_far.cls ≠ "java/lang/invoke/VarHandle" ∧ (parseMethodDescriptor yX7_far.desc).map (fun d => d.parameters.length) = some 1 := by decide +kernel
set_option maxHeartbeats 4000000 in
set_option maxRecDepth 100000 in
theorem mt_mf_far (l : Launch) (G : zG) (ad : Nat → Nat) (m_status : Int32) (m_top : Int64) (m_bottom : Int64) (m_taped : Int32) (m_size : Int32) (m_token : Int32) (m_from : Int32) (m_end : Int32) (m_value : Int32) (m_faultKind : Int32) (m_faultPlace : Int32) (m_faults : Int32) (m_seen : Int32) (m_depth : Int32) (m_counted : Int32) (m_lead : Int32) (m_round : Int32) (m_tried : Int32) (m_triedMany : Int32) (m_drawn : Int32) (m_ranSteps : Int32) (m_isTold : Bool) (m_marks : Int32) (m_at : Nat → Int32) (m_names : Nat → Int64) (m_sort : Nat → Int32) (m_trayMany : Nat → Int32) (m_trays : Nat → Int64) (m_tape : Nat → Int32) (m_text : Nat → Int32) (m_opened : Nat → Int32) (m_beside : Nat → Int32) (m_then : Nat → Int32) (m_ways : Nat → Int64) (m_further : Nat → Int64) (m_canBe : Nat → Int32) (m_loops : Nat → Int32) (m_ran : Nat → Int32) (m_told0 : Nat → Int32) (Wd : Nat) (R : Nat) (nr : Nat) (nc : Nat) (nights : Int32) (hG : mOK m_at Wd R nr nc) (sz : Nat) : Met l yX7_far (ws_ yX7_far cX7_far 2 (some .long)) (zR 5 0 0) (zPm G sz [.ref (ad 0), .int nights] (mW G ad m_status m_top m_bottom m_taped m_size m_token m_from m_end m_value m_faultKind m_faultPlace m_faults m_seen m_depth m_counted m_lead m_round m_tried m_triedMany m_drawn m_ranSteps m_isTold m_marks m_at m_names m_sort m_trayMany m_trays m_tape m_text m_opened m_beside m_then m_ways m_further m_canBe m_loops m_ran m_told0)) (zQm G (True) (some (.long ((mf_far m_lead m_round m_at m_beside m_then Wd R nights).1))) (mW G ad ((mf_far m_lead m_round m_at m_beside m_then Wd R nights).2.1) m_top m_bottom m_taped m_size m_token m_from m_end m_value m_faultKind m_faultPlace m_faults m_seen m_depth m_counted ((mf_far m_lead m_round m_at m_beside m_then Wd R nights).2.2.1) ((mf_far m_lead m_round m_at m_beside m_then Wd R nights).2.2.2.1) m_tried m_triedMany m_drawn m_ranSteps m_isTold m_marks m_at m_names m_sort m_trayMany m_trays m_tape m_text m_opened ((mf_far m_lead m_round m_at m_beside m_then Wd R nights).2.2.2.2.1) ((mf_far m_lead m_round m_at m_beside m_then Wd R nights).2.2.2.2.2) m_ways m_further m_canBe m_loops m_ran m_told0) (va_A (mW G ad m_status m_top m_bottom m_taped m_size m_token m_from m_end m_value m_faultKind m_faultPlace m_faults m_seen m_depth m_counted m_lead m_round m_tried m_triedMany m_drawn m_ranSteps m_isTold m_marks m_at m_names m_sort m_trayMany m_trays m_tape m_text m_opened m_beside m_then m_ways m_further m_canBe m_loops m_ran m_told0) sz)) 0 0 (va_A (mW G ad m_status m_top m_bottom m_taped m_size m_token m_from m_end m_value m_faultKind m_faultPlace m_faults m_seen m_depth m_counted m_lead m_round m_tried m_triedMany m_drawn m_ranSteps m_isTold m_marks m_at m_names m_sort m_trayMany m_trays m_tape m_text m_opened m_beside m_then m_ways m_further m_canBe m_loops m_ran m_told0) sz) := by
  refine zr_entM (by decide) (Nat.le_of_ble_eq_true rfl) ?_
  intro p e s m below meth c ⟨hx, hb, hr, hml, hown, hts, hlocks, hnm⟩ ls hl hP hK A hE hA hD hS
  have hown : s.vm.findClass RX7 = some m.cls := hown
  have hl : lv_has ls 2 [(0, .ref (ad 0)), (1, .int nights)] := hl
  obtain ⟨H, hH⟩ : ∃ H, H = s.heap := ⟨_, rfl⟩
  obtain ⟨locs, hlo⟩ : ∃ L : List Loc, L = [] := ⟨_, rfl⟩
  rw [← hH] at hP
  have hS : va_S A s.heap H locs := by rw [hH, hlo]; exact va_S.rf
  have hgo : W p l e (zR 5 0 0) s m ([.ref (ad 0), .int nights] : List Value).toArray below meth c H locs 0 0 (MQ below (zQm G (True) (some (.long ((mf_far m_lead m_round m_at m_beside m_then Wd R nights).1))) (mW G ad ((mf_far m_lead m_round m_at m_beside m_then Wd R nights).2.1) m_top m_bottom m_taped m_size m_token m_from m_end m_value m_faultKind m_faultPlace m_faults m_seen m_depth m_counted ((mf_far m_lead m_round m_at m_beside m_then Wd R nights).2.2.1) ((mf_far m_lead m_round m_at m_beside m_then Wd R nights).2.2.2.1) m_tried m_triedMany m_drawn m_ranSteps m_isTold m_marks m_at m_names m_sort m_trayMany m_trays m_tape m_text m_opened ((mf_far m_lead m_round m_at m_beside m_then Wd R nights).2.2.2.2.1) ((mf_far m_lead m_round m_at m_beside m_then Wd R nights).2.2.2.2.2) m_ways m_further m_canBe m_loops m_ran m_told0) A) ([.ref (ad 0), .int nights] : List Value).toArray s 0 0 A) (F0 m 0 ls []) := ?_
  · rw [hH, hlo] at hgo; exact hgo
  clear hH hlo
  have hWR := mOK_WR hG
  have hW0 := mOK_W0 hG
  have hW5 := mOK_W5 hG
  have hR0 := mOK_R0 hG
  have hR6 := mOK_R6 hG
  have hn4 := mOK_n4 hG
  have hc6 := mOK_c6 hG
  refine lv_iload_n hx hb dX7_far_0 rfl (lv_at hl 1 rfl) ?_
  refine lv_i2l hx hb dX7_far_1 rfl ?_
  refine lv_lconst (v := 0) hx hb dX7_far_2 rfl ?_
  refine lv_ldc2 (v := 999999999) hx hb hown (hts _ q1917) dX7_far_3 ?_
  refine zr_puS ⟨hx, hb, hml, hown, hts⟩ (mt_mf_isFrom l nights.toInt64 0 999999999) (va_cwS 3 hts (lw_S q1848 q1849 q144 q1850) rfl rfl rfl hd_X7_isFrom.2 ⟨(Nat.le_of_ble_eq_true rfl), (Nat.le_of_ble_eq_true rfl)⟩) rfl hl.1 rfl (Nat.le_of_ble_eq_true rfl) dX7_far_6 ⟨Nat.le_refl _, Nat.le_refl _⟩ ?_
  refine zr_neB (mf_isFrom nights.toInt64 0 999999999) (tgt := 19) hx hb dX7_far_9 (by decide) (fun c_1 => ?_) (fun c_1 => ?_)
  · obtain ⟨hm0, hm1, hm2⟩ := isFrom_t (a := 0) (N := 999999999) (by decide) (by decide) c_1
    refine lv_aload_n hx hb dX7_far_19 rfl (lv_at hl 0 rfl) ?_
    refine zr_muV (F := mf_comesAgain m_lead m_round m_at m_beside m_then Wd R) (ff := fun t_2 => (t_2.1 = true → (¬ t_2.2.1 < 0 ∧ ¬ t_2.2.2.1 < 0 ∧ 1 ≤ (t_2.2.2.1).toNatClampNeg ∧ (t_2.2.1).toNatClampNeg + (t_2.2.2.1).toNatClampNeg ≤ 2000))) (rr := fun t_2 => some (.int (zb t_2.1))) (w1 := fun t_2 => (mW G ad m_status m_top m_bottom m_taped m_size m_token m_from m_end m_value m_faultKind m_faultPlace m_faults m_seen m_depth m_counted t_2.2.1 t_2.2.2.1 m_tried m_triedMany m_drawn m_ranSteps m_isTold m_marks m_at m_names m_sort m_trayMany m_trays m_tape m_text m_opened t_2.2.2.2.1 t_2.2.2.2.2 m_ways m_further m_canBe m_loops m_ran m_told0)) ⟨hx, hb, hml, hown, hts⟩ (mt_mf_comesAgain l G ad m_status m_top m_bottom m_taped m_size m_token m_from m_end m_value m_faultKind m_faultPlace m_faults m_seen m_depth m_counted m_lead m_round m_tried m_triedMany m_drawn m_ranSteps m_isTold m_marks m_at m_names m_sort m_trayMany m_trays m_tape m_text m_opened m_beside m_then m_ways m_further m_canBe m_loops m_ran m_told0 Wd R nr nc hG H.size) (cwV 0 hts (lw_V q1909 q1911 qs108 q144 q1912) rfl rfl rfl hd_X7_comesAgain ⟨(Nat.le_of_ble_eq_true rfl), (Nat.le_of_ble_eq_true rfl)⟩) hP hD hS hA hK hE 0 7 rfl rfl rfl hl.1 rfl (Nat.le_of_ble_eq_true rfl) dX7_far_20 ⟨Nat.le_refl _, Nat.le_refl _⟩ (fun t_2 ht_2 hft_2 H locs hP hD hS _ => ?_)
    refine W.eq (g2 := F0 m 23 ls [.int (zb t_2.1)]) rfl ?_
    have hca_t_2 := hft_2
    refine zr_neB t_2.1 (tgt := 34) hx hb dX7_far_23 (by decide) (fun c_3 => ?_) (fun c_3 => ?_)
    · obtain ⟨hl0, hq0, hq1, hlq⟩ := hca_t_2 c_3
      have hl : lv_has ls 2 [(0, .ref (ad 0)), (1, .int (nI nights.toNatClampNeg))] := by rw [← (z_nn hm0 : nights = nI nights.toNatClampNeg)]; exact hl
      refine lv_aload_n hx hb dX7_far_34 rfl (lv_at hl 0 rfl) ?_
      refine lv_aload_n hx hb dX7_far_35 rfl (lv_at hl 0 rfl) ?_
      refine va_get (D := G.1) (ci := 7) (v := .ref (ad 10)) (C := RX7) (T := TX7) (N := 39) hx hb hts in_X7 hown hK.1 hP 0 rfl rfl 24 (Nat.le_of_ble_eq_true rfl) (hts _ q1491) (fun _ h => h) rfl dX7_far_36 ?_
      refine lv_iload_n hx hb dX7_far_39 rfl (lv_at hl 1 rfl) ?_
      refine lv_aload_n hx hb dX7_far_40 rfl (lv_at hl 0 rfl) ?_
      refine va_get (D := G.1) (ci := 7) (v := .int (nI t_2.2.1.toNatClampNeg)) (C := RX7) (T := TX7) (N := 39) hx hb hts in_X7 hown hK.1 hP 0 rfl rfl 25 (Nat.le_of_ble_eq_true rfl) (hts _ q1492) (fun _ h => h) (congrArg (fun z => some (Value.int z)) (z_nn hl0)) dX7_far_41 ?_
      refine zr_ge nights.toNatClampNeg t_2.2.1.toNatClampNeg (by omega) (by omega) (tgt := 51) hx hb dX7_far_44 (by decide) (fun c_4 => ?_) (fun c_4 => ?_)
      · refine lv_aload_n hx hb dX7_far_51 rfl (lv_at hl 0 rfl) ?_
        refine va_get (D := G.1) (ci := 7) (v := .int (nI t_2.2.1.toNatClampNeg)) (C := RX7) (T := TX7) (N := 39) hx hb hts in_X7 hown hK.1 hP 0 rfl rfl 25 (Nat.le_of_ble_eq_true rfl) (hts _ q1492) (fun _ h => h) (congrArg (fun z => some (Value.int z)) (z_nn hl0)) dX7_far_52 ?_
        refine lv_iload_n hx hb dX7_far_55 rfl (lv_at hl 1 rfl) ?_
        refine lv_aload_n hx hb dX7_far_56 rfl (lv_at hl 0 rfl) ?_
        refine va_get (D := G.1) (ci := 7) (v := .int (nI t_2.2.1.toNatClampNeg)) (C := RX7) (T := TX7) (N := 39) hx hb hts in_X7 hown hK.1 hP 0 rfl rfl 25 (Nat.le_of_ble_eq_true rfl) (hts _ q1492) (fun _ h => h) (congrArg (fun z => some (Value.int z)) (z_nn hl0)) dX7_far_57 ?_
        refine zr_isubN nights.toNatClampNeg t_2.2.1.toNatClampNeg (by omega) hx hb dX7_far_60 ?_
        refine lv_aload_n hx hb dX7_far_61 rfl (lv_at hl 0 rfl) ?_
        refine va_get (D := G.1) (ci := 7) (v := .int (nI t_2.2.2.1.toNatClampNeg)) (C := RX7) (T := TX7) (N := 39) hx hb hts in_X7 hown hK.1 hP 0 rfl rfl 26 (Nat.le_of_ble_eq_true rfl) (hts _ q1493) (fun _ h => h) (congrArg (fun z => some (Value.int z)) (z_nn hq0)) dX7_far_62 ?_
        refine zr_iremN (nights.toNatClampNeg - t_2.2.1.toNatClampNeg) t_2.2.2.1.toNatClampNeg (by omega) (by omega) (by omega) hx hb dX7_far_65 ?_
        refine zr_iaddN t_2.2.1.toNatClampNeg ((nights.toNatClampNeg - t_2.2.1.toNatClampNeg) % t_2.2.2.1.toNatClampNeg) hx hb dX7_far_66 ?_
        refine zr_iald (t_2.2.1.toNatClampNeg + ((nights.toNatClampNeg - t_2.2.1.toNatClampNeg) % t_2.2.2.1.toNatClampNeg)) (v := t_2.2.2.2.2 (t_2.2.1.toNatClampNeg + ((nights.toNatClampNeg - t_2.2.1.toNatClampNeg) % t_2.2.2.1.toNatClampNeg))) hx hb hK hP 10 rfl rfl (Nat.le_of_ble_eq_true rfl) rfl (by first | omega | exact Nat.lt_of_lt_of_le (Nat.add_lt_add_left (Nat.mod_lt _ (by omega)) _) (by omega)) rfl dX7_far_67 ?_
        refine lv_i2l hx hb dX7_far_68 rfl ?_
        refine zr_muV (F := ()) (ff := fun _ => True) (rr := fun _ => some (.long ((t_2.2.2.2.2 (t_2.2.1.toNatClampNeg + ((nights.toNatClampNeg - t_2.2.1.toNatClampNeg) % t_2.2.2.1.toNatClampNeg))).toInt64))) (w1 := fun _ => (mW G ad 0 m_top m_bottom m_taped m_size m_token m_from m_end m_value m_faultKind m_faultPlace m_faults m_seen m_depth m_counted t_2.2.1 t_2.2.2.1 m_tried m_triedMany m_drawn m_ranSteps m_isTold m_marks m_at m_names m_sort m_trayMany m_trays m_tape m_text m_opened t_2.2.2.2.1 t_2.2.2.2.2 m_ways m_further m_canBe m_loops m_ran m_told0)) ⟨hx, hb, hml, hown, hts⟩ (mt_mf_givesLong l G ad m_status m_top m_bottom m_taped m_size m_token m_from m_end m_value m_faultKind m_faultPlace m_faults m_seen m_depth m_counted t_2.2.1 t_2.2.2.1 m_tried m_triedMany m_drawn m_ranSteps m_isTold m_marks m_at m_names m_sort m_trayMany m_trays m_tape m_text m_opened t_2.2.2.2.1 t_2.2.2.2.2 m_ways m_further m_canBe m_loops m_ran m_told0 ((t_2.2.2.2.2 (t_2.2.1.toNatClampNeg + ((nights.toNatClampNeg - t_2.2.1.toNatClampNeg) % t_2.2.2.1.toNatClampNeg))).toInt64) H.size) (cwV 1 hts (lw_V q1791 q1793 qs92 q144 q1794) rfl rfl rfl hd_X7_givesLong ⟨(Nat.le_of_ble_eq_true rfl), (Nat.le_of_ble_eq_true rfl)⟩) hP hD hS hA hK hE 0 7 rfl rfl rfl hl.1 rfl (Nat.le_of_ble_eq_true rfl) dX7_far_69 ⟨Nat.le_refl _, Nat.le_refl _⟩ (fun _ _ _ H locs hP hD hS _ => ?_)
        refine W.eq (g2 := F0 m 72 ls [.long ((t_2.2.2.2.2 (t_2.2.1.toNatClampNeg + ((nights.toNatClampNeg - t_2.2.1.toNatClampNeg) % t_2.2.2.1.toNatClampNeg))).toInt64)]) rfl ?_
        have e_ : mf_far m_lead m_round m_at m_beside m_then Wd R nights = ((t_2.2.2.2.2 (t_2.2.1.toNatClampNeg + ((nights.toNatClampNeg - t_2.2.1.toNatClampNeg) % t_2.2.2.1.toNatClampNeg))).toInt64, 0, t_2.2.1, t_2.2.2.1, t_2.2.2.2.1, t_2.2.2.2.2) := by rw [mf_far, if_pos c_1, zlet_eq ht_2, if_pos c_3, if_pos c_4]
        exact zr_ml hx hb hr hlocks hP hD hS dX7_far_72 (by rw [e_])  (by rw [e_]) trivial
      · refine lv_iload_n hx hb dX7_far_47 rfl (lv_at hl 1 rfl) ?_
        refine lv_goto (tgt := 67) hx hb dX7_far_48 (by decide) ?_
        refine zr_iald nights.toNatClampNeg (v := t_2.2.2.2.2 nights.toNatClampNeg) hx hb hK hP 10 rfl rfl (Nat.le_of_ble_eq_true rfl) rfl (by first | omega | exact Nat.lt_of_lt_of_le (Nat.add_lt_add_left (Nat.mod_lt _ (by omega)) _) (by omega)) rfl dX7_far_67 ?_
        refine lv_i2l hx hb dX7_far_68 rfl ?_
        refine zr_muV (F := ()) (ff := fun _ => True) (rr := fun _ => some (.long ((t_2.2.2.2.2 nights.toNatClampNeg).toInt64))) (w1 := fun _ => (mW G ad 0 m_top m_bottom m_taped m_size m_token m_from m_end m_value m_faultKind m_faultPlace m_faults m_seen m_depth m_counted t_2.2.1 t_2.2.2.1 m_tried m_triedMany m_drawn m_ranSteps m_isTold m_marks m_at m_names m_sort m_trayMany m_trays m_tape m_text m_opened t_2.2.2.2.1 t_2.2.2.2.2 m_ways m_further m_canBe m_loops m_ran m_told0)) ⟨hx, hb, hml, hown, hts⟩ (mt_mf_givesLong l G ad m_status m_top m_bottom m_taped m_size m_token m_from m_end m_value m_faultKind m_faultPlace m_faults m_seen m_depth m_counted t_2.2.1 t_2.2.2.1 m_tried m_triedMany m_drawn m_ranSteps m_isTold m_marks m_at m_names m_sort m_trayMany m_trays m_tape m_text m_opened t_2.2.2.2.1 t_2.2.2.2.2 m_ways m_further m_canBe m_loops m_ran m_told0 ((t_2.2.2.2.2 nights.toNatClampNeg).toInt64) H.size) (cwV 1 hts (lw_V q1791 q1793 qs92 q144 q1794) rfl rfl rfl hd_X7_givesLong ⟨(Nat.le_of_ble_eq_true rfl), (Nat.le_of_ble_eq_true rfl)⟩) hP hD hS hA hK hE 0 7 rfl rfl rfl hl.1 rfl (Nat.le_of_ble_eq_true rfl) dX7_far_69 ⟨Nat.le_refl _, Nat.le_refl _⟩ (fun _ _ _ H locs hP hD hS _ => ?_)
        refine W.eq (g2 := F0 m 72 ls [.long ((t_2.2.2.2.2 nights.toNatClampNeg).toInt64)]) rfl ?_
        have e_ : mf_far m_lead m_round m_at m_beside m_then Wd R nights = ((t_2.2.2.2.2 nights.toNatClampNeg).toInt64, 0, t_2.2.1, t_2.2.2.1, t_2.2.2.2.1, t_2.2.2.2.2) := by rw [mf_far, if_pos c_1, zlet_eq ht_2, if_pos c_3, if_neg c_4]
        exact zr_ml hx hb hr hlocks hP hD hS dX7_far_72 (by rw [e_])  (by rw [e_]) trivial
    · refine lv_aload_n hx hb dX7_far_26 rfl (lv_at hl 0 rfl) ?_
      refine lv_bipush (v := 7) hx hb dX7_far_27 (by decide) ?_
      refine zr_muV (F := ()) (ff := fun _ => True) (rr := fun _ => some (.int (-1))) (w1 := fun _ => (mW G ad 7 m_top m_bottom m_taped m_size m_token m_from m_end m_value m_faultKind m_faultPlace m_faults m_seen m_depth m_counted t_2.2.1 t_2.2.2.1 m_tried m_triedMany m_drawn m_ranSteps m_isTold m_marks m_at m_names m_sort m_trayMany m_trays m_tape m_text m_opened t_2.2.2.2.1 t_2.2.2.2.2 m_ways m_further m_canBe m_loops m_ran m_told0)) ⟨hx, hb, hml, hown, hts⟩ (mt_mf_refuse l G ad m_status m_top m_bottom m_taped m_size m_token m_from m_end m_value m_faultKind m_faultPlace m_faults m_seen m_depth m_counted t_2.2.1 t_2.2.2.1 m_tried m_triedMany m_drawn m_ranSteps m_isTold m_marks m_at m_names m_sort m_trayMany m_trays m_tape m_text m_opened t_2.2.2.2.1 t_2.2.2.2.2 m_ways m_further m_canBe m_loops m_ran m_told0 7 H.size) (cwV 1 hts (lw_V q1666 q1668 qs66 q144 q1669) rfl rfl rfl hd_X7_refuse ⟨(Nat.le_of_ble_eq_true rfl), (Nat.le_of_ble_eq_true rfl)⟩) hP hD hS hA hK hE 0 7 rfl rfl rfl hl.1 rfl (Nat.le_of_ble_eq_true rfl) dX7_far_29 ⟨Nat.le_refl _, Nat.le_refl _⟩ (fun _ _ _ H locs hP hD hS _ => ?_)
      refine W.eq (g2 := F0 m 32 ls [.int (-1)]) rfl ?_
      refine lv_i2l (v := (-1)) hx hb dX7_far_32 (by decide) ?_
      have e_ : mf_far m_lead m_round m_at m_beside m_then Wd R nights = ((-1), 7, t_2.2.1, t_2.2.2.1, t_2.2.2.2.1, t_2.2.2.2.2) := by rw [mf_far, if_pos c_1, zlet_eq ht_2, if_neg c_3]
      exact zr_ml hx hb hr hlocks hP hD hS dX7_far_33 (by rw [e_])  (by rw [e_]) trivial
  · refine lv_aload_n hx hb dX7_far_12 rfl (lv_at hl 0 rfl) ?_
    refine lv_iconst (v := 1) hx hb dX7_far_13 (by decide) ?_
    refine zr_muV (F := ()) (ff := fun _ => True) (rr := fun _ => some (.int (-1))) (w1 := fun _ => (mW G ad 1 m_top m_bottom m_taped m_size m_token m_from m_end m_value m_faultKind m_faultPlace m_faults m_seen m_depth m_counted m_lead m_round m_tried m_triedMany m_drawn m_ranSteps m_isTold m_marks m_at m_names m_sort m_trayMany m_trays m_tape m_text m_opened m_beside m_then m_ways m_further m_canBe m_loops m_ran m_told0)) ⟨hx, hb, hml, hown, hts⟩ (mt_mf_refuse l G ad m_status m_top m_bottom m_taped m_size m_token m_from m_end m_value m_faultKind m_faultPlace m_faults m_seen m_depth m_counted m_lead m_round m_tried m_triedMany m_drawn m_ranSteps m_isTold m_marks m_at m_names m_sort m_trayMany m_trays m_tape m_text m_opened m_beside m_then m_ways m_further m_canBe m_loops m_ran m_told0 1 H.size) (cwV 1 hts (lw_V q1666 q1668 qs66 q144 q1669) rfl rfl rfl hd_X7_refuse ⟨(Nat.le_of_ble_eq_true rfl), (Nat.le_of_ble_eq_true rfl)⟩) hP hD hS hA hK hE 0 7 rfl rfl rfl hl.1 rfl (Nat.le_of_ble_eq_true rfl) dX7_far_14 ⟨Nat.le_refl _, Nat.le_refl _⟩ (fun _ _ _ H locs hP hD hS _ => ?_)
    refine W.eq (g2 := F0 m 17 ls [.int (-1)]) rfl ?_
    refine lv_i2l (v := (-1)) hx hb dX7_far_17 (by decide) ?_
    have e_ : mf_far m_lead m_round m_at m_beside m_then Wd R nights = ((-1), 1, m_lead, m_round, m_beside, m_then) := by rw [mf_far, if_neg c_1]
    exact zr_ml hx hb hr hlocks hP hD hS dX7_far_18 (by rw [e_])  (by rw [e_]) trivial
def mf_moved_B6 (Wd : Nat) (R : Nat) (lit : Int32) (x : Int32) (y : Int32) (s_1 : Nat × Int32) : (Nat × Int32) ⊕ ((Nat × Int32) ⊕ (Int32)) :=
  (if (Wd * R) ≤ s_1.1 then
    .inr (.inl (s_1.1, s_1.2))
  else
    (if ((lit >>> ((nI s_1.1) &&& 31)) &&& 1) = 0 then
      .inl (s_1.1 + 1, s_1.2)
    else
      (if (mf_isPlace Wd R ((nI (s_1.1 % Wd)) + x) ((nI (s_1.1 / Wd)) + y)) = true then
        .inl (s_1.1 + 1, s_1.2 ||| (mf_bitOf Wd ((nI (s_1.1 % Wd)) + x) ((nI (s_1.1 / Wd)) + y)))
      else
        .inr (.inr (-1)))))
def mf_moved_L6 (Wd : Nat) (R : Nat) (lit : Int32) (x : Int32) (y : Int32) (s_1 : Nat × Int32) : (Nat × Int32) ⊕ (Int32) := zw (mf_moved_B6 Wd R lit x y) (.inl s_1) ((Wd * R - s_1.1) + 1) s_1
def mf_moved (Wd : Nat) (R : Nat) (lit : Int32) (x : Int32) (y : Int32) : Int32 :=
  zcase (mf_moved_L6 Wd R lit x y (0, 0)) (fun t_1 =>
  t_1.2) (fun r => r)
theorem hd_X7_moved : yX7_moved.cls = RX7 ∧ yX7_moved.cls ≠ "java/lang/invoke/MethodHandle" ∧ yX7_moved.cls ≠ "java/lang/invoke/VarHandle" ∧ (parseMethodDescriptor yX7_moved.desc).map (fun d => d.parameters.length) = some 3 := by decide +kernel
set_option maxHeartbeats 4000000 in
set_option maxRecDepth 100000 in
theorem mt_mf_moved (l : Launch) (G : zG) (ad : Nat → Nat) (m_status : Int32) (m_top : Int64) (m_bottom : Int64) (m_taped : Int32) (m_size : Int32) (m_token : Int32) (m_from : Int32) (m_end : Int32) (m_value : Int32) (m_faultKind : Int32) (m_faultPlace : Int32) (m_faults : Int32) (m_seen : Int32) (m_depth : Int32) (m_counted : Int32) (m_lead : Int32) (m_round : Int32) (m_tried : Int32) (m_triedMany : Int32) (m_drawn : Int32) (m_ranSteps : Int32) (m_isTold : Bool) (m_marks : Int32) (m_at : Nat → Int32) (m_names : Nat → Int64) (m_sort : Nat → Int32) (m_trayMany : Nat → Int32) (m_trays : Nat → Int64) (m_tape : Nat → Int32) (m_text : Nat → Int32) (m_opened : Nat → Int32) (m_beside : Nat → Int32) (m_then : Nat → Int32) (m_ways : Nat → Int64) (m_further : Nat → Int64) (m_canBe : Nat → Int32) (m_loops : Nat → Int32) (m_ran : Nat → Int32) (m_told0 : Nat → Int32) (Wd : Nat) (R : Nat) (nr : Nat) (nc : Nat) (lit : Int32) (x : Int32) (y : Int32) (hG : mOK m_at Wd R nr nc) : Met l yX7_moved (ws_ yX7_moved cX7_moved 8 (some .int)) (zR 2 0 0) (zPo G [.ref (ad 0), .int lit, .int x, .int y] (mW G ad m_status m_top m_bottom m_taped m_size m_token m_from m_end m_value m_faultKind m_faultPlace m_faults m_seen m_depth m_counted m_lead m_round m_tried m_triedMany m_drawn m_ranSteps m_isTold m_marks m_at m_names m_sort m_trayMany m_trays m_tape m_text m_opened m_beside m_then m_ways m_further m_canBe m_loops m_ran m_told0)) (k2_QcV (.int (mf_moved Wd R lit x y))) 0 0 (fun _ => False) := by
  refine zr_entO (by decide) (Nat.le_of_ble_eq_true rfl) ?_
  intro p e s m below meth c ⟨hx, hb, hr, hml, hown, hts, hlocks, hnm⟩ ls hl hP hK hE
  have hown : s.vm.findClass RX7 = some m.cls := hown
  have hl : lv_has ls 8 [(0, .ref (ad 0)), (1, .int lit), (2, .int x), (3, .int y)] := hl
  have hWR := mOK_WR hG
  have hW0 := mOK_W0 hG
  have hW5 := mOK_W5 hG
  have hR0 := mOK_R0 hG
  have hR6 := mOK_R6 hG
  have hn4 := mOK_n4 hG
  have hc6 := mOK_c6 hG
  refine lv_iconst (v := 0) hx hb dX7_moved_0 (by decide) ?_
  refine lv_istore (lv' := [(4, .int 0), (0, .ref (ad 0)), (1, .int lit), (2, .int x), (3, .int y)]) hx hb dX7_moved_1 hl (by decide) rfl (fun ls hl => ?_)
  refine lv_iconst (v := 0) hx hb dX7_moved_3 (by decide) ?_
  refine lv_istore (lv' := [(5, .int 0), (4, .int 0), (0, .ref (ad 0)), (1, .int lit), (2, .int x), (3, .int y)]) hx hb dX7_moved_4 hl (by decide) rfl (fun ls hl => ?_)
  have hx_1 : ∀ t_1 : Nat × Int32, mf_moved_L6 Wd R lit x y (0, 0) = .inl t_1 → ∀ ls : Array Slot, lv_has ls 8 [(4, .int t_1.2)] → W p l e (zR 2 0 0) s m ([.ref (ad 0), .int lit, .int x, .int y] : List Value).toArray below meth c s.heap [] 0 0 (MQ below (k2_QcV (.int (mf_moved Wd R lit x y))) ([.ref (ad 0), .int lit, .int x, .int y] : List Value).toArray s 0 0 (fun _ => False)) (F0 m 85 ls []) := by
    intro t_1 ht_1 ls hl
    refine lv_iload hx hb dX7_moved_85 (lv_at hl 0 rfl) ?_
    have e_ : mf_moved Wd R lit x y = t_1.2 := by rw [mf_moved, zcase_l ht_1]
    exact zr_oi hx hb hr hlocks dX7_moved_87 (congrArg Value.int e_)
  have hlp_1 : ∀ (n : Nat) (s_1 : Nat × Int32), Wd * R - s_1.1 < n → zw (mf_moved_B6 Wd R lit x y) (.inl (0, 0)) n s_1 = mf_moved_L6 Wd R lit x y (0, 0) → s_1.1 ≤ Wd * R → ∀ ls : Array Slot, lv_has ls 8 [(5, .int (nI s_1.1)), (4, .int s_1.2), (0, .ref (ad 0)), (1, .int lit), (2, .int x), (3, .int y)] → W p l e (zR 2 0 0) s m ([.ref (ad 0), .int lit, .int x, .int y] : List Value).toArray below meth c s.heap [] 0 0 (MQ below (k2_QcV (.int (mf_moved Wd R lit x y))) ([.ref (ad 0), .int lit, .int x, .int y] : List Value).toArray s 0 0 (fun _ => False)) (F0 m 6 ls []) := by
    intro n
    induction n with
    | zero => exact fun _ h => absurd h (Nat.not_lt_zero _)
    | succ n ih_1 =>
      intro s_1 hmu_1 hR_1 hi5 ls hl
      refine lv_iload hx hb dX7_moved_6 (lv_at hl 0 rfl) ?_
      refine lv_aload_n hx hb dX7_moved_8 rfl (lv_at hl 2 rfl) ?_
      refine zr_obV ⟨hx, hb, hml, hown, hts⟩ (mt_mf_places l G ad m_status m_top m_bottom m_taped m_size m_token m_from m_end m_value m_faultKind m_faultPlace m_faults m_seen m_depth m_counted m_lead m_round m_tried m_triedMany m_drawn m_ranSteps m_isTold m_marks m_at m_names m_sort m_trayMany m_trays m_tape m_text m_opened m_beside m_then m_ways m_further m_canBe m_loops m_ran m_told0 Wd R nr nc hG) (cwV 0 hts (lw_V q1815 q1817 qs97 q144 q1818) rfl rfl rfl hd_X7_places ⟨(Nat.le_of_ble_eq_true rfl), (Nat.le_of_ble_eq_true rfl)⟩) hP hK hE 0 7 rfl rfl rfl hl.1 rfl (Nat.le_of_ble_eq_true rfl) dX7_moved_9 ⟨Nat.le_refl _, Nat.le_refl _⟩ ?_
      refine zr_ge s_1.1 (Wd * R) (by omega) (by omega) (tgt := 85) hx hb dX7_moved_12 (by decide) (fun c_2 => ?_) (fun c_2 => ?_)
      · exact hx_1 (s_1.1, s_1.2) (hR_1.symm.trans (zw_r (by rw [mf_moved_B6, if_pos c_2]))) ls (lv_sub hl [1] rfl)
      · refine lv_iload_n hx hb dX7_moved_15 rfl (lv_at hl 3 rfl) ?_
        refine lv_iload hx hb dX7_moved_16 (lv_at hl 0 rfl) ?_
        refine lv_ishr hx hb dX7_moved_18 ?_
        refine lv_iconst (v := 1) hx hb dX7_moved_19 (by decide) ?_
        refine lv_iand hx hb dX7_moved_20 ?_
        refine lv_if_ne (tgt := 27) hx hb dX7_moved_21 (by decide) (fun c_3 => ?_) (fun c_3 => ?_)
        · refine lv_iload hx hb dX7_moved_27 (lv_at hl 0 rfl) ?_
          refine lv_aload_n hx hb dX7_moved_29 rfl (lv_at hl 2 rfl) ?_
          refine va_get (D := G.1) (ci := 7) (v := .ref (ad 1)) (C := RX7) (T := TX7) (N := 39) hx hb hts in_X7 hown hK.1 hP 0 rfl rfl 0 (Nat.le_of_ble_eq_true rfl) (hts _ q1467) (fun _ h => h) rfl dX7_moved_30 ?_
          refine lv_iconst (v := 0) hx hb dX7_moved_33 (by decide) ?_
          refine zr_iald 0 (v := nI Wd) hx hb hK hP 1 rfl rfl (Nat.le_of_ble_eq_true rfl) rfl (by decide) (mOK_w hG) dX7_moved_34 ?_
          refine zr_iremN s_1.1 Wd (by omega) (by omega) (by omega) hx hb dX7_moved_35 ?_
          refine lv_iload_n hx hb dX7_moved_36 rfl (lv_at hl 4 rfl) ?_
          refine lv_iadd hx hb dX7_moved_37 ?_
          refine lv_istore (lv' := [(6, .int ((nI (s_1.1 % Wd)) + x)), (5, .int (nI s_1.1)), (4, .int s_1.2), (0, .ref (ad 0)), (1, .int lit), (2, .int x), (3, .int y)]) hx hb dX7_moved_38 hl (by decide) rfl (fun ls hl => ?_)
          refine lv_iload hx hb dX7_moved_40 (lv_at hl 1 rfl) ?_
          refine lv_aload_n hx hb dX7_moved_42 rfl (lv_at hl 3 rfl) ?_
          refine va_get (D := G.1) (ci := 7) (v := .ref (ad 1)) (C := RX7) (T := TX7) (N := 39) hx hb hts in_X7 hown hK.1 hP 0 rfl rfl 0 (Nat.le_of_ble_eq_true rfl) (hts _ q1467) (fun _ h => h) rfl dX7_moved_43 ?_
          refine lv_iconst (v := 0) hx hb dX7_moved_46 (by decide) ?_
          refine zr_iald 0 (v := nI Wd) hx hb hK hP 1 rfl rfl (Nat.le_of_ble_eq_true rfl) rfl (by decide) (mOK_w hG) dX7_moved_47 ?_
          refine zr_idivN s_1.1 Wd (by omega) (by omega) (by omega) hx hb dX7_moved_48 ?_
          refine lv_iload_n hx hb dX7_moved_49 rfl (lv_at hl 6 rfl) ?_
          refine lv_iadd hx hb dX7_moved_50 ?_
          refine lv_istore (lv' := [(7, .int ((nI (s_1.1 / Wd)) + y)), (6, .int ((nI (s_1.1 % Wd)) + x)), (5, .int (nI s_1.1)), (4, .int s_1.2), (0, .ref (ad 0)), (1, .int lit), (2, .int x), (3, .int y)]) hx hb dX7_moved_51 hl (by decide) rfl (fun ls hl => ?_)
          refine lv_aload_n hx hb dX7_moved_53 rfl (lv_at hl 4 rfl) ?_
          refine lv_iload hx hb dX7_moved_54 (lv_at hl 1 rfl) ?_
          refine lv_iload hx hb dX7_moved_56 (lv_at hl 0 rfl) ?_
          refine zr_obV ⟨hx, hb, hml, hown, hts⟩ (mt_mf_isPlace l G ad m_status m_top m_bottom m_taped m_size m_token m_from m_end m_value m_faultKind m_faultPlace m_faults m_seen m_depth m_counted m_lead m_round m_tried m_triedMany m_drawn m_ranSteps m_isTold m_marks m_at m_names m_sort m_trayMany m_trays m_tape m_text m_opened m_beside m_then m_ways m_further m_canBe m_loops m_ran m_told0 Wd R nr nc ((nI (s_1.1 % Wd)) + x) ((nI (s_1.1 / Wd)) + y) hG) (cwV 2 hts (lw_V q1803 q1805 qs94 q144 q1806) rfl rfl rfl hd_X7_isPlace ⟨(Nat.le_of_ble_eq_true rfl), (Nat.le_of_ble_eq_true rfl)⟩) hP hK hE 0 7 rfl rfl rfl hl.1 rfl (Nat.le_of_ble_eq_true rfl) dX7_moved_58 ⟨Nat.le_refl _, Nat.le_refl _⟩ ?_
          refine zr_neB (mf_isPlace Wd R ((nI (s_1.1 % Wd)) + x) ((nI (s_1.1 / Wd)) + y)) (tgt := 66) hx hb dX7_moved_61 (by decide) (fun c_4 => ?_) (fun c_4 => ?_)
          · refine lv_iload hx hb dX7_moved_66 (lv_at hl 3 rfl) ?_
            refine lv_aload_n hx hb dX7_moved_68 rfl (lv_at hl 4 rfl) ?_
            refine lv_iload hx hb dX7_moved_69 (lv_at hl 1 rfl) ?_
            refine lv_iload hx hb dX7_moved_71 (lv_at hl 0 rfl) ?_
            refine zr_obV ⟨hx, hb, hml, hown, hts⟩ (mt_mf_bitOf l G ad m_status m_top m_bottom m_taped m_size m_token m_from m_end m_value m_faultKind m_faultPlace m_faults m_seen m_depth m_counted m_lead m_round m_tried m_triedMany m_drawn m_ranSteps m_isTold m_marks m_at m_names m_sort m_trayMany m_trays m_tape m_text m_opened m_beside m_then m_ways m_further m_canBe m_loops m_ran m_told0 Wd R nr nc ((nI (s_1.1 % Wd)) + x) ((nI (s_1.1 / Wd)) + y) hG) (cwV 2 hts (lw_V q1807 q1809 qs95 q144 q1810) rfl rfl rfl hd_X7_bitOf ⟨(Nat.le_of_ble_eq_true rfl), (Nat.le_of_ble_eq_true rfl)⟩) hP hK hE 0 7 rfl rfl rfl hl.1 rfl (Nat.le_of_ble_eq_true rfl) dX7_moved_73 ⟨Nat.le_refl _, Nat.le_refl _⟩ ?_
            refine lv_ior hx hb dX7_moved_76 ?_
            refine lv_istore (lv' := [(4, .int (s_1.2 ||| (mf_bitOf Wd ((nI (s_1.1 % Wd)) + x) ((nI (s_1.1 / Wd)) + y)))), (7, .int ((nI (s_1.1 / Wd)) + y)), (6, .int ((nI (s_1.1 % Wd)) + x)), (5, .int (nI s_1.1)), (0, .ref (ad 0)), (1, .int lit), (2, .int x), (3, .int y)]) hx hb dX7_moved_77 hl (by decide) rfl (fun ls hl => ?_)
            refine lv_iinc (v := nI (s_1.1 + 1)) (lv' := [(5, .int (nI (s_1.1 + 1))), (4, .int (s_1.2 ||| (mf_bitOf Wd ((nI (s_1.1 % Wd)) + x) ((nI (s_1.1 / Wd)) + y)))), (7, .int ((nI (s_1.1 / Wd)) + y)), (6, .int ((nI (s_1.1 % Wd)) + x)), (0, .ref (ad 0)), (1, .int lit), (2, .int x), (3, .int y)]) hx hb dX7_moved_79 hl (k := 3) rfl (nI_add s_1.1 1) (by decide) rfl (fun ls hl => ?_)
            refine lv_goto (tgt := 6) hx hb dX7_moved_82 (by decide) ?_
            exact ih_1 (s_1.1 + 1, s_1.2 ||| (mf_bitOf Wd ((nI (s_1.1 % Wd)) + x) ((nI (s_1.1 / Wd)) + y))) (by omega) ((zw_l (by rw [mf_moved_B6, if_neg c_2, if_neg c_3, if_pos c_4])).symm.trans hR_1) (by omega) ls (lv_sub hl [0, 1, 4, 5, 6, 7] rfl)
          · refine lv_iconst (v := (-1)) hx hb dX7_moved_64 (by decide) ?_
            have hr_1 : mf_moved_L6 Wd R lit x y (0, 0) = .inr (-1) := hR_1.symm.trans (zw_r (by rw [mf_moved_B6, if_neg c_2, if_neg c_3, if_neg c_4]))
            have e_ : mf_moved Wd R lit x y = (-1) := by rw [mf_moved, zcase_r hr_1]
            exact zr_oi hx hb hr hlocks dX7_moved_65 (congrArg Value.int e_)
        · refine lv_goto (tgt := 79) hx hb dX7_moved_24 (by decide) ?_
          refine lv_iinc (v := nI (s_1.1 + 1)) (lv' := [(5, .int (nI (s_1.1 + 1))), (4, .int s_1.2), (0, .ref (ad 0)), (1, .int lit), (2, .int x), (3, .int y)]) hx hb dX7_moved_79 hl (k := 0) rfl (nI_add s_1.1 1) (by decide) rfl (fun ls hl => ?_)
          refine lv_goto (tgt := 6) hx hb dX7_moved_82 (by decide) ?_
          exact ih_1 (s_1.1 + 1, s_1.2) (by omega) ((zw_l (by rw [mf_moved_B6, if_neg c_2, if_pos c_3])).symm.trans hR_1) (by omega) ls (lv_sub hl [0, 1, 2, 3, 4, 5] rfl)
  exact hlp_1 _ (0, 0) (Nat.lt_succ_self _) (by rw [mf_moved_L6]) (by omega) ls (lv_sub hl [0, 1, 2, 3, 4, 5] rfl)
def mf_walks_B77 (m_at : Nat → Int32) (Wd : Nat) (R : Nat) (what : Int32) (t_5 : (Nat → Int32)) (s_6 : Nat × Int32) (s_8 : Nat) (s_10 : Nat) : (Nat) ⊕ ((Nat) ⊕ (Int32 × Int32 × (Nat → Int32))) :=
  (if 4 < (nI s_10 - 4) then
    .inr (.inl s_10)
  else
    (if (mf_moved Wd R (m_at 3) (nI s_10 - 4) (nI s_8 - 5)) = (mf_becomes m_at t_5 Wd R s_6.2 (m_at 10)) then
      (if what = 0 then
        .inr (.inr (nI s_6.1, 0, t_5))
      else
        (if what = 1 then
          .inr (.inr (nI s_10 - 4, 0, t_5))
        else
          .inr (.inr (nI s_8 - 5, 0, t_5))))
    else
      .inl (s_10 + 1)))
def mf_walks_L77 (m_at : Nat → Int32) (Wd : Nat) (R : Nat) (what : Int32) (t_5 : (Nat → Int32)) (s_6 : Nat × Int32) (s_8 : Nat) (s_10 : Nat) : (Nat) ⊕ (Int32 × Int32 × (Nat → Int32)) := zw (mf_walks_B77 m_at Wd R what t_5 s_6 s_8) (.inl s_10) ((9 - s_10) + 1) s_10
def mf_walks_B67 (m_at : Nat → Int32) (Wd : Nat) (R : Nat) (what : Int32) (t_5 : (Nat → Int32)) (s_6 : Nat × Int32) (s_8 : Nat) : (Nat) ⊕ ((Nat) ⊕ (Int32 × Int32 × (Nat → Int32))) :=
  (if 5 < (nI s_8 - 5) then
    .inr (.inl s_8)
  else
    zcase (mf_walks_L77 m_at Wd R what t_5 s_6 s_8 0) (fun t_10 =>
    .inl (s_8 + 1)) (fun r => .inr (.inr r)))
def mf_walks_L67 (m_at : Nat → Int32) (Wd : Nat) (R : Nat) (what : Int32) (t_5 : (Nat → Int32)) (s_6 : Nat × Int32) (s_8 : Nat) : (Nat) ⊕ (Int32 × Int32 × (Nat → Int32)) := zw (mf_walks_B67 m_at Wd R what t_5 s_6) (.inl s_8) ((11 - s_8) + 1) s_8
def mf_walks_B44 (m_at : Nat → Int32) (Wd : Nat) (R : Nat) (what : Int32) (t_5 : (Nat → Int32)) (s_6 : Nat × Int32) : (Nat × Int32) ⊕ ((Nat × Int32) ⊕ (Int32 × Int32 × (Nat → Int32))) :=
  (if 60 < s_6.1 then
    .inr (.inl (s_6.1, s_6.2))
  else
    zcase (mf_walks_L67 m_at Wd R what t_5 s_6 0) (fun t_8 =>
    .inl (s_6.1 + 1, mf_becomes m_at t_5 Wd R s_6.2 (m_at 10))) (fun r => .inr (.inr r)))
def mf_walks_L44 (m_at : Nat → Int32) (Wd : Nat) (R : Nat) (what : Int32) (t_5 : (Nat → Int32)) (s_6 : Nat × Int32) : (Nat × Int32) ⊕ (Int32 × Int32 × (Nat → Int32)) := zw (mf_walks_B44 m_at Wd R what t_5) (.inl s_6) ((61 - s_6.1) + 1) s_6
def mf_walks (m_at : Nat → Int32) (m_beside : Nat → Int32) (Wd : Nat) (R : Nat) (what : Int32) : Int32 × Int32 × (Nat → Int32) :=
  (if what < 0 then
    ((-1), 1, m_beside)
  else
    (if what ≤ 2 then
      (if (m_at 3) = 0 then
        ((-1), 6, m_beside)
      else
        zlet (mf_laysNear m_at m_beside Wd R) (fun t_5 =>
        zcase (mf_walks_L44 m_at Wd R what t_5 (1, m_at 3)) (fun t_6 =>
        ((-1), 6, t_5)) (fun r => r)))
    else
      ((-1), 1, m_beside)))
theorem hd_X7_walks : yX7_walks.cls = RX7 ∧ yX7_walks.cls ≠ "java/lang/invoke/MethodHandle" ∧ yX7_walks.cls ≠ "java/lang/invoke/VarHandle" ∧ (parseMethodDescriptor yX7_walks.desc).map (fun d => d.parameters.length) = some 1 := by decide +kernel
set_option maxHeartbeats 4000000 in
set_option maxRecDepth 100000 in
theorem mt_mf_walks (l : Launch) (G : zG) (ad : Nat → Nat) (m_status : Int32) (m_top : Int64) (m_bottom : Int64) (m_taped : Int32) (m_size : Int32) (m_token : Int32) (m_from : Int32) (m_end : Int32) (m_value : Int32) (m_faultKind : Int32) (m_faultPlace : Int32) (m_faults : Int32) (m_seen : Int32) (m_depth : Int32) (m_counted : Int32) (m_lead : Int32) (m_round : Int32) (m_tried : Int32) (m_triedMany : Int32) (m_drawn : Int32) (m_ranSteps : Int32) (m_isTold : Bool) (m_marks : Int32) (m_at : Nat → Int32) (m_names : Nat → Int64) (m_sort : Nat → Int32) (m_trayMany : Nat → Int32) (m_trays : Nat → Int64) (m_tape : Nat → Int32) (m_text : Nat → Int32) (m_opened : Nat → Int32) (m_beside : Nat → Int32) (m_then : Nat → Int32) (m_ways : Nat → Int64) (m_further : Nat → Int64) (m_canBe : Nat → Int32) (m_loops : Nat → Int32) (m_ran : Nat → Int32) (m_told0 : Nat → Int32) (Wd : Nat) (R : Nat) (nr : Nat) (nc : Nat) (what : Int32) (hG : mOK m_at Wd R nr nc) (sz : Nat) : Met l yX7_walks (ws_ yX7_walks cX7_walks 6 (some .int)) (zR 4 0 0) (zPm G sz [.ref (ad 0), .int what] (mW G ad m_status m_top m_bottom m_taped m_size m_token m_from m_end m_value m_faultKind m_faultPlace m_faults m_seen m_depth m_counted m_lead m_round m_tried m_triedMany m_drawn m_ranSteps m_isTold m_marks m_at m_names m_sort m_trayMany m_trays m_tape m_text m_opened m_beside m_then m_ways m_further m_canBe m_loops m_ran m_told0)) (zQm G (True) (some (.int ((mf_walks m_at m_beside Wd R what).1))) (mW G ad ((mf_walks m_at m_beside Wd R what).2.1) m_top m_bottom m_taped m_size m_token m_from m_end m_value m_faultKind m_faultPlace m_faults m_seen m_depth m_counted m_lead m_round m_tried m_triedMany m_drawn m_ranSteps m_isTold m_marks m_at m_names m_sort m_trayMany m_trays m_tape m_text m_opened ((mf_walks m_at m_beside Wd R what).2.2) m_then m_ways m_further m_canBe m_loops m_ran m_told0) (va_A (mW G ad m_status m_top m_bottom m_taped m_size m_token m_from m_end m_value m_faultKind m_faultPlace m_faults m_seen m_depth m_counted m_lead m_round m_tried m_triedMany m_drawn m_ranSteps m_isTold m_marks m_at m_names m_sort m_trayMany m_trays m_tape m_text m_opened m_beside m_then m_ways m_further m_canBe m_loops m_ran m_told0) sz)) 0 0 (va_A (mW G ad m_status m_top m_bottom m_taped m_size m_token m_from m_end m_value m_faultKind m_faultPlace m_faults m_seen m_depth m_counted m_lead m_round m_tried m_triedMany m_drawn m_ranSteps m_isTold m_marks m_at m_names m_sort m_trayMany m_trays m_tape m_text m_opened m_beside m_then m_ways m_further m_canBe m_loops m_ran m_told0) sz) := by
  refine zr_entM (by decide) (Nat.le_of_ble_eq_true rfl) ?_
  intro p e s m below meth c ⟨hx, hb, hr, hml, hown, hts, hlocks, hnm⟩ ls hl hP hK A hE hA hD hS
  have hown : s.vm.findClass RX7 = some m.cls := hown
  have hl : lv_has ls 6 [(0, .ref (ad 0)), (1, .int what)] := hl
  obtain ⟨H, hH⟩ : ∃ H, H = s.heap := ⟨_, rfl⟩
  obtain ⟨locs, hlo⟩ : ∃ L : List Loc, L = [] := ⟨_, rfl⟩
  rw [← hH] at hP
  have hS : va_S A s.heap H locs := by rw [hH, hlo]; exact va_S.rf
  have hgo : W p l e (zR 4 0 0) s m ([.ref (ad 0), .int what] : List Value).toArray below meth c H locs 0 0 (MQ below (zQm G (True) (some (.int ((mf_walks m_at m_beside Wd R what).1))) (mW G ad ((mf_walks m_at m_beside Wd R what).2.1) m_top m_bottom m_taped m_size m_token m_from m_end m_value m_faultKind m_faultPlace m_faults m_seen m_depth m_counted m_lead m_round m_tried m_triedMany m_drawn m_ranSteps m_isTold m_marks m_at m_names m_sort m_trayMany m_trays m_tape m_text m_opened ((mf_walks m_at m_beside Wd R what).2.2) m_then m_ways m_further m_canBe m_loops m_ran m_told0) A) ([.ref (ad 0), .int what] : List Value).toArray s 0 0 A) (F0 m 0 ls []) := ?_
  · rw [hH, hlo] at hgo; exact hgo
  clear hH hlo
  have hWR := mOK_WR hG
  have hW0 := mOK_W0 hG
  have hW5 := mOK_W5 hG
  have hR0 := mOK_R0 hG
  have hR6 := mOK_R6 hG
  have hn4 := mOK_n4 hG
  have hc6 := mOK_c6 hG
  refine lv_iload_n hx hb dX7_walks_0 rfl (lv_at hl 1 rfl) ?_
  refine lv_if_lt (tgt := 9) hx hb dX7_walks_1 (by decide) (fun c_1 => ?_) (fun c_1 => ?_)
  · refine lv_aload_n hx hb dX7_walks_9 rfl (lv_at hl 0 rfl) ?_
    refine lv_iconst (v := 1) hx hb dX7_walks_10 (by decide) ?_
    refine zr_muV (F := ()) (ff := fun _ => True) (rr := fun _ => some (.int (-1))) (w1 := fun _ => (mW G ad 1 m_top m_bottom m_taped m_size m_token m_from m_end m_value m_faultKind m_faultPlace m_faults m_seen m_depth m_counted m_lead m_round m_tried m_triedMany m_drawn m_ranSteps m_isTold m_marks m_at m_names m_sort m_trayMany m_trays m_tape m_text m_opened m_beside m_then m_ways m_further m_canBe m_loops m_ran m_told0)) ⟨hx, hb, hml, hown, hts⟩ (mt_mf_refuse l G ad m_status m_top m_bottom m_taped m_size m_token m_from m_end m_value m_faultKind m_faultPlace m_faults m_seen m_depth m_counted m_lead m_round m_tried m_triedMany m_drawn m_ranSteps m_isTold m_marks m_at m_names m_sort m_trayMany m_trays m_tape m_text m_opened m_beside m_then m_ways m_further m_canBe m_loops m_ran m_told0 1 H.size) (cwV 1 hts (lw_V q1666 q1668 qs66 q144 q1669) rfl rfl rfl hd_X7_refuse ⟨(Nat.le_of_ble_eq_true rfl), (Nat.le_of_ble_eq_true rfl)⟩) hP hD hS hA hK hE 0 7 rfl rfl rfl hl.1 rfl (Nat.le_of_ble_eq_true rfl) dX7_walks_11 ⟨Nat.le_refl _, Nat.le_refl _⟩ (fun _ _ _ H locs hP hD hS _ => ?_)
    refine W.eq (g2 := F0 m 14 ls [.int (-1)]) rfl ?_
    have e_ : mf_walks m_at m_beside Wd R what = ((-1), 1, m_beside) := by rw [mf_walks, if_pos c_1]
    exact zr_mi hx hb hr hlocks hP hD hS dX7_walks_14 (by rw [e_])  (by rw [e_]) trivial
  · refine lv_iload_n hx hb dX7_walks_4 rfl (lv_at hl 1 rfl) ?_
    refine lv_iconst (v := 2) hx hb dX7_walks_5 (by decide) ?_
    refine lv_icmp_le (tgt := 15) hx hb dX7_walks_6 (by decide) (fun c_3 => ?_) (fun c_3 => ?_)
    · refine lv_aload_n hx hb dX7_walks_15 rfl (lv_at hl 0 rfl) ?_
      refine va_get (D := G.1) (ci := 7) (v := .ref (ad 1)) (C := RX7) (T := TX7) (N := 39) hx hb hts in_X7 hown hK.1 hP 0 rfl rfl 0 (Nat.le_of_ble_eq_true rfl) (hts _ q1467) (fun _ h => h) rfl dX7_walks_16 ?_
      refine lv_iconst (v := 3) hx hb dX7_walks_19 (by decide) ?_
      refine zr_iald 3 (v := m_at 3) hx hb hK hP 1 rfl rfl (Nat.le_of_ble_eq_true rfl) rfl (by decide) rfl dX7_walks_20 ?_
      refine lv_if_ne (tgt := 31) hx hb dX7_walks_21 (by decide) (fun c_4 => ?_) (fun c_4 => ?_)
      · refine lv_aload_n hx hb dX7_walks_31 rfl (lv_at hl 0 rfl) ?_
        refine zr_muV (F := mf_laysNear m_at m_beside Wd R) (ff := fun t_5 => True) (rr := fun t_5 => none) (w1 := fun t_5 => (mW G ad m_status m_top m_bottom m_taped m_size m_token m_from m_end m_value m_faultKind m_faultPlace m_faults m_seen m_depth m_counted m_lead m_round m_tried m_triedMany m_drawn m_ranSteps m_isTold m_marks m_at m_names m_sort m_trayMany m_trays m_tape m_text m_opened t_5 m_then m_ways m_further m_canBe m_loops m_ran m_told0)) ⟨hx, hb, hml, hown, hts⟩ (mt_mf_laysNear l G ad m_status m_top m_bottom m_taped m_size m_token m_from m_end m_value m_faultKind m_faultPlace m_faults m_seen m_depth m_counted m_lead m_round m_tried m_triedMany m_drawn m_ranSteps m_isTold m_marks m_at m_names m_sort m_trayMany m_trays m_tape m_text m_opened m_beside m_then m_ways m_further m_canBe m_loops m_ran m_told0 Wd R nr nc hG H.size) (cwV 0 hts (lw_V q1889 q1891 qs105 q144 q1892) rfl rfl rfl hd_X7_laysNear ⟨(Nat.le_of_ble_eq_true rfl), (Nat.le_of_ble_eq_true rfl)⟩) hP hD hS hA hK hE 0 7 rfl rfl rfl hl.1 rfl (Nat.le_of_ble_eq_true rfl) dX7_walks_32 ⟨Nat.le_refl _, Nat.le_refl _⟩ (fun t_5 ht_5 hft_5 H locs hP hD hS _ => ?_)
        refine W.eq (g2 := F0 m 35 ls []) rfl ?_
        refine lv_aload_n hx hb dX7_walks_35 rfl (lv_at hl 0 rfl) ?_
        refine va_get (D := G.1) (ci := 7) (v := .ref (ad 1)) (C := RX7) (T := TX7) (N := 39) hx hb hts in_X7 hown hK.1 hP 0 rfl rfl 0 (Nat.le_of_ble_eq_true rfl) (hts _ q1467) (fun _ h => h) rfl dX7_walks_36 ?_
        refine lv_iconst (v := 3) hx hb dX7_walks_39 (by decide) ?_
        refine zr_iald 3 (v := m_at 3) hx hb hK hP 1 rfl rfl (Nat.le_of_ble_eq_true rfl) rfl (by decide) rfl dX7_walks_40 ?_
        refine lv_istore_n (lv' := [(2, .int (m_at 3)), (0, .ref (ad 0)), (1, .int what)]) hx hb dX7_walks_41 rfl hl (by decide) rfl (fun ls hl => ?_)
        refine lv_iconst (v := 1) hx hb dX7_walks_42 (by decide) ?_
        refine lv_istore_n (lv' := [(3, .int 1), (2, .int (m_at 3)), (0, .ref (ad 0)), (1, .int what)]) hx hb dX7_walks_43 rfl hl (by decide) rfl (fun ls hl => ?_)
        have hx_6 : ∀ t_6 : Nat × Int32, mf_walks_L44 m_at Wd R what t_5 (1, m_at 3) = .inl t_6 → ∀ (H : Heap) (locs : List Loc), va_P G.1 zcl (mW G ad m_status m_top m_bottom m_taped m_size m_token m_from m_end m_value m_faultKind m_faultPlace m_faults m_seen m_depth m_counted m_lead m_round m_tried m_triedMany m_drawn m_ranSteps m_isTold m_marks m_at m_names m_sort m_trayMany m_trays m_tape m_text m_opened t_5 m_then m_ways m_further m_canBe m_loops m_ran m_told0) H → va_D A (mW G ad m_status m_top m_bottom m_taped m_size m_token m_from m_end m_value m_faultKind m_faultPlace m_faults m_seen m_depth m_counted m_lead m_round m_tried m_triedMany m_drawn m_ranSteps m_isTold m_marks m_at m_names m_sort m_trayMany m_trays m_tape m_text m_opened t_5 m_then m_ways m_further m_canBe m_loops m_ran m_told0) → va_S A s.heap H locs → ∀ ls : Array Slot, lv_has ls 6 [(0, .ref (ad 0))] → W p l e (zR 4 0 0) s m ([.ref (ad 0), .int what] : List Value).toArray below meth c H locs 0 0 (MQ below (zQm G (True) (some (.int ((mf_walks m_at m_beside Wd R what).1))) (mW G ad ((mf_walks m_at m_beside Wd R what).2.1) m_top m_bottom m_taped m_size m_token m_from m_end m_value m_faultKind m_faultPlace m_faults m_seen m_depth m_counted m_lead m_round m_tried m_triedMany m_drawn m_ranSteps m_isTold m_marks m_at m_names m_sort m_trayMany m_trays m_tape m_text m_opened ((mf_walks m_at m_beside Wd R what).2.2) m_then m_ways m_further m_canBe m_loops m_ran m_told0) A) ([.ref (ad 0), .int what] : List Value).toArray s 0 0 A) (F0 m 144 ls []) := by
          intro t_6 ht_6 H locs hP hD hS ls hl
          refine lv_aload_n hx hb dX7_walks_144 rfl (lv_at hl 0 rfl) ?_
          refine lv_bipush (v := 6) hx hb dX7_walks_145 (by decide) ?_
          refine zr_muV (F := ()) (ff := fun _ => True) (rr := fun _ => some (.int (-1))) (w1 := fun _ => (mW G ad 6 m_top m_bottom m_taped m_size m_token m_from m_end m_value m_faultKind m_faultPlace m_faults m_seen m_depth m_counted m_lead m_round m_tried m_triedMany m_drawn m_ranSteps m_isTold m_marks m_at m_names m_sort m_trayMany m_trays m_tape m_text m_opened t_5 m_then m_ways m_further m_canBe m_loops m_ran m_told0)) ⟨hx, hb, hml, hown, hts⟩ (mt_mf_refuse l G ad m_status m_top m_bottom m_taped m_size m_token m_from m_end m_value m_faultKind m_faultPlace m_faults m_seen m_depth m_counted m_lead m_round m_tried m_triedMany m_drawn m_ranSteps m_isTold m_marks m_at m_names m_sort m_trayMany m_trays m_tape m_text m_opened t_5 m_then m_ways m_further m_canBe m_loops m_ran m_told0 6 H.size) (cwV 1 hts (lw_V q1666 q1668 qs66 q144 q1669) rfl rfl rfl hd_X7_refuse ⟨(Nat.le_of_ble_eq_true rfl), (Nat.le_of_ble_eq_true rfl)⟩) hP hD hS hA hK hE 0 7 rfl rfl rfl hl.1 rfl (Nat.le_of_ble_eq_true rfl) dX7_walks_147 ⟨Nat.le_refl _, Nat.le_refl _⟩ (fun _ _ _ H locs hP hD hS _ => ?_)
          refine W.eq (g2 := F0 m 150 ls [.int (-1)]) rfl ?_
          have e_ : mf_walks m_at m_beside Wd R what = ((-1), 6, t_5) := by rw [mf_walks, if_neg c_1, if_pos c_3, if_neg c_4, zlet_eq ht_5, zcase_l ht_6]
          exact zr_mi hx hb hr hlocks hP hD hS dX7_walks_150 (by rw [e_])  (by rw [e_]) trivial
        have hlp_6 : ∀ (n : Nat) (s_6 : Nat × Int32), 61 - s_6.1 < n → zw (mf_walks_B44 m_at Wd R what t_5) (.inl (1, m_at 3)) n s_6 = mf_walks_L44 m_at Wd R what t_5 (1, m_at 3) → 1 ≤ s_6.1 ∧ s_6.1 ≤ 61 → ∀ (H : Heap) (locs : List Loc), va_P G.1 zcl (mW G ad m_status m_top m_bottom m_taped m_size m_token m_from m_end m_value m_faultKind m_faultPlace m_faults m_seen m_depth m_counted m_lead m_round m_tried m_triedMany m_drawn m_ranSteps m_isTold m_marks m_at m_names m_sort m_trayMany m_trays m_tape m_text m_opened t_5 m_then m_ways m_further m_canBe m_loops m_ran m_told0) H → va_D A (mW G ad m_status m_top m_bottom m_taped m_size m_token m_from m_end m_value m_faultKind m_faultPlace m_faults m_seen m_depth m_counted m_lead m_round m_tried m_triedMany m_drawn m_ranSteps m_isTold m_marks m_at m_names m_sort m_trayMany m_trays m_tape m_text m_opened t_5 m_then m_ways m_further m_canBe m_loops m_ran m_told0) → va_S A s.heap H locs → ∀ ls : Array Slot, lv_has ls 6 [(3, .int (nI s_6.1)), (2, .int s_6.2), (0, .ref (ad 0)), (1, .int what)] → W p l e (zR 4 0 0) s m ([.ref (ad 0), .int what] : List Value).toArray below meth c H locs 0 0 (MQ below (zQm G (True) (some (.int ((mf_walks m_at m_beside Wd R what).1))) (mW G ad ((mf_walks m_at m_beside Wd R what).2.1) m_top m_bottom m_taped m_size m_token m_from m_end m_value m_faultKind m_faultPlace m_faults m_seen m_depth m_counted m_lead m_round m_tried m_triedMany m_drawn m_ranSteps m_isTold m_marks m_at m_names m_sort m_trayMany m_trays m_tape m_text m_opened ((mf_walks m_at m_beside Wd R what).2.2) m_then m_ways m_further m_canBe m_loops m_ran m_told0) A) ([.ref (ad 0), .int what] : List Value).toArray s 0 0 A) (F0 m 44 ls []) := by
          intro n
          induction n with
          | zero => exact fun _ h => absurd h (Nat.not_lt_zero _)
          | succ n ih_6 =>
            intro s_6 hmu_6 hR_6 hi3 H locs hP hD hS ls hl
            refine lv_iload_n hx hb dX7_walks_44 rfl (lv_at hl 0 rfl) ?_
            refine lv_bipush (v := 60) hx hb dX7_walks_45 (by decide) ?_
            refine zr_gt s_6.1 60 (by omega) (by decide) (tgt := 144) hx hb dX7_walks_47 (by decide) (fun c_7 => ?_) (fun c_7 => ?_)
            · exact hx_6 (s_6.1, s_6.2) (hR_6.symm.trans (zw_r (by rw [mf_walks_B44, if_pos c_7]))) H locs hP hD hS ls (lv_sub hl [2] rfl)
            · refine lv_aload_n hx hb dX7_walks_50 rfl (lv_at hl 2 rfl) ?_
              refine lv_iload_n hx hb dX7_walks_51 rfl (lv_at hl 1 rfl) ?_
              refine lv_aload_n hx hb dX7_walks_52 rfl (lv_at hl 2 rfl) ?_
              refine va_get (D := G.1) (ci := 7) (v := .ref (ad 1)) (C := RX7) (T := TX7) (N := 39) hx hb hts in_X7 hown hK.1 hP 0 rfl rfl 0 (Nat.le_of_ble_eq_true rfl) (hts _ q1467) (fun _ h => h) rfl dX7_walks_53 ?_
              refine lv_bipush (v := 10) hx hb dX7_walks_56 (by decide) ?_
              refine zr_iald 10 (v := m_at 10) hx hb hK hP 1 rfl rfl (Nat.le_of_ble_eq_true rfl) rfl (by decide) rfl dX7_walks_58 ?_
              refine zr_obV ⟨hx, hb, hml, hown, hts⟩ (mt_mf_becomes l G ad m_status m_top m_bottom m_taped m_size m_token m_from m_end m_value m_faultKind m_faultPlace m_faults m_seen m_depth m_counted m_lead m_round m_tried m_triedMany m_drawn m_ranSteps m_isTold m_marks m_at m_names m_sort m_trayMany m_trays m_tape m_text m_opened t_5 m_then m_ways m_further m_canBe m_loops m_ran m_told0 Wd R nr nc s_6.2 (m_at 10) hG (mOK_by hG)) (cwV 2 hts (lw_V q1893 q1895 qs106 q144 q1896) rfl rfl rfl hd_X7_becomes ⟨(Nat.le_of_ble_eq_true rfl), (Nat.le_of_ble_eq_true rfl)⟩) hP hK (zE_o hE hS) 0 7 rfl rfl rfl hl.1 rfl (Nat.le_of_ble_eq_true rfl) dX7_walks_59 ⟨Nat.le_refl _, Nat.le_refl _⟩ ?_
              refine lv_istore_n (lv' := [(2, .int (mf_becomes m_at t_5 Wd R s_6.2 (m_at 10))), (3, .int (nI s_6.1)), (0, .ref (ad 0)), (1, .int what)]) hx hb dX7_walks_62 rfl hl (by decide) rfl (fun ls hl => ?_)
              refine lv_bipush (v := (-5)) hx hb dX7_walks_63 (by decide) ?_
              refine lv_istore (lv' := [(4, .int (-5)), (2, .int (mf_becomes m_at t_5 Wd R s_6.2 (m_at 10))), (3, .int (nI s_6.1)), (0, .ref (ad 0)), (1, .int what)]) hx hb dX7_walks_65 hl (by decide) rfl (fun ls hl => ?_)
              have hx_8 : ∀ t_8 : Nat, mf_walks_L67 m_at Wd R what t_5 s_6 0 = .inl t_8 → ∀ (H : Heap) (locs : List Loc), va_P G.1 zcl (mW G ad m_status m_top m_bottom m_taped m_size m_token m_from m_end m_value m_faultKind m_faultPlace m_faults m_seen m_depth m_counted m_lead m_round m_tried m_triedMany m_drawn m_ranSteps m_isTold m_marks m_at m_names m_sort m_trayMany m_trays m_tape m_text m_opened t_5 m_then m_ways m_further m_canBe m_loops m_ran m_told0) H → va_D A (mW G ad m_status m_top m_bottom m_taped m_size m_token m_from m_end m_value m_faultKind m_faultPlace m_faults m_seen m_depth m_counted m_lead m_round m_tried m_triedMany m_drawn m_ranSteps m_isTold m_marks m_at m_names m_sort m_trayMany m_trays m_tape m_text m_opened t_5 m_then m_ways m_further m_canBe m_loops m_ran m_told0) → va_S A s.heap H locs → ∀ ls : Array Slot, lv_has ls 6 [(2, .int (mf_becomes m_at t_5 Wd R s_6.2 (m_at 10))), (3, .int (nI s_6.1)), (0, .ref (ad 0)), (1, .int what)] → W p l e (zR 4 0 0) s m ([.ref (ad 0), .int what] : List Value).toArray below meth c H locs 0 0 (MQ below (zQm G (True) (some (.int ((mf_walks m_at m_beside Wd R what).1))) (mW G ad ((mf_walks m_at m_beside Wd R what).2.1) m_top m_bottom m_taped m_size m_token m_from m_end m_value m_faultKind m_faultPlace m_faults m_seen m_depth m_counted m_lead m_round m_tried m_triedMany m_drawn m_ranSteps m_isTold m_marks m_at m_names m_sort m_trayMany m_trays m_tape m_text m_opened ((mf_walks m_at m_beside Wd R what).2.2) m_then m_ways m_further m_canBe m_loops m_ran m_told0) A) ([.ref (ad 0), .int what] : List Value).toArray s 0 0 A) (F0 m 138 ls []) := by
                intro t_8 ht_8 H locs hP hD hS ls hl
                refine lv_iinc (v := nI (s_6.1 + 1)) (lv' := [(3, .int (nI (s_6.1 + 1))), (2, .int (mf_becomes m_at t_5 Wd R s_6.2 (m_at 10))), (0, .ref (ad 0)), (1, .int what)]) hx hb dX7_walks_138 hl (k := 1) rfl (nI_add s_6.1 1) (by decide) rfl (fun ls hl => ?_)
                refine lv_goto (tgt := 44) hx hb dX7_walks_141 (by decide) ?_
                exact ih_6 (s_6.1 + 1, mf_becomes m_at t_5 Wd R s_6.2 (m_at 10)) (by omega) ((zw_l (by rw [mf_walks_B44, if_neg c_7, zcase_l ht_8])).symm.trans hR_6) (by omega) H locs hP hD hS ls (lv_sub hl [0, 1, 2, 3] rfl)
              have hlp_8 : ∀ (n : Nat) (s_8 : Nat), 11 - s_8 < n → zw (mf_walks_B67 m_at Wd R what t_5 s_6) (.inl 0) n s_8 = mf_walks_L67 m_at Wd R what t_5 s_6 0 → s_8 < 12 → ∀ (H : Heap) (locs : List Loc), va_P G.1 zcl (mW G ad m_status m_top m_bottom m_taped m_size m_token m_from m_end m_value m_faultKind m_faultPlace m_faults m_seen m_depth m_counted m_lead m_round m_tried m_triedMany m_drawn m_ranSteps m_isTold m_marks m_at m_names m_sort m_trayMany m_trays m_tape m_text m_opened t_5 m_then m_ways m_further m_canBe m_loops m_ran m_told0) H → va_D A (mW G ad m_status m_top m_bottom m_taped m_size m_token m_from m_end m_value m_faultKind m_faultPlace m_faults m_seen m_depth m_counted m_lead m_round m_tried m_triedMany m_drawn m_ranSteps m_isTold m_marks m_at m_names m_sort m_trayMany m_trays m_tape m_text m_opened t_5 m_then m_ways m_further m_canBe m_loops m_ran m_told0) → va_S A s.heap H locs → ∀ ls : Array Slot, lv_has ls 6 [(4, .int (nI s_8 - 5)), (2, .int (mf_becomes m_at t_5 Wd R s_6.2 (m_at 10))), (3, .int (nI s_6.1)), (0, .ref (ad 0)), (1, .int what)] → W p l e (zR 4 0 0) s m ([.ref (ad 0), .int what] : List Value).toArray below meth c H locs 0 0 (MQ below (zQm G (True) (some (.int ((mf_walks m_at m_beside Wd R what).1))) (mW G ad ((mf_walks m_at m_beside Wd R what).2.1) m_top m_bottom m_taped m_size m_token m_from m_end m_value m_faultKind m_faultPlace m_faults m_seen m_depth m_counted m_lead m_round m_tried m_triedMany m_drawn m_ranSteps m_isTold m_marks m_at m_names m_sort m_trayMany m_trays m_tape m_text m_opened ((mf_walks m_at m_beside Wd R what).2.2) m_then m_ways m_further m_canBe m_loops m_ran m_told0) A) ([.ref (ad 0), .int what] : List Value).toArray s 0 0 A) (F0 m 67 ls []) := by
                intro n
                induction n with
                | zero => exact fun _ h => absurd h (Nat.not_lt_zero _)
                | succ n ih_8 =>
                  intro s_8 hmu_8 hR_8 hi4 H locs hP hD hS ls hl
                  refine lv_iload hx hb dX7_walks_67 (lv_at hl 0 rfl) ?_
                  refine lv_iconst (v := 5) hx hb dX7_walks_69 (by decide) ?_
                  refine lv_icmp_gt (tgt := 138) hx hb dX7_walks_70 (by decide) (fun c_9 => ?_) (fun c_9 => ?_)
                  · exact hx_8 s_8 (hR_8.symm.trans (zw_r (by rw [mf_walks_B67, if_pos c_9]))) H locs hP hD hS ls (lv_sub hl [1, 2, 3, 4] rfl)
                  · have hj4 := z_a5 _ hi4 c_9
                    refine lv_bipush (v := (-4)) hx hb dX7_walks_73 (by decide) ?_
                    refine lv_istore (lv' := [(5, .int (-4)), (4, .int (nI s_8 - 5)), (2, .int (mf_becomes m_at t_5 Wd R s_6.2 (m_at 10))), (3, .int (nI s_6.1)), (0, .ref (ad 0)), (1, .int what)]) hx hb dX7_walks_75 hl (by decide) rfl (fun ls hl => ?_)
                    have hx_10 : ∀ t_10 : Nat, mf_walks_L77 m_at Wd R what t_5 s_6 s_8 0 = .inl t_10 → ∀ (H : Heap) (locs : List Loc), va_P G.1 zcl (mW G ad m_status m_top m_bottom m_taped m_size m_token m_from m_end m_value m_faultKind m_faultPlace m_faults m_seen m_depth m_counted m_lead m_round m_tried m_triedMany m_drawn m_ranSteps m_isTold m_marks m_at m_names m_sort m_trayMany m_trays m_tape m_text m_opened t_5 m_then m_ways m_further m_canBe m_loops m_ran m_told0) H → va_D A (mW G ad m_status m_top m_bottom m_taped m_size m_token m_from m_end m_value m_faultKind m_faultPlace m_faults m_seen m_depth m_counted m_lead m_round m_tried m_triedMany m_drawn m_ranSteps m_isTold m_marks m_at m_names m_sort m_trayMany m_trays m_tape m_text m_opened t_5 m_then m_ways m_further m_canBe m_loops m_ran m_told0) → va_S A s.heap H locs → ∀ ls : Array Slot, lv_has ls 6 [(4, .int (nI s_8 - 5)), (2, .int (mf_becomes m_at t_5 Wd R s_6.2 (m_at 10))), (3, .int (nI s_6.1)), (0, .ref (ad 0)), (1, .int what)] → W p l e (zR 4 0 0) s m ([.ref (ad 0), .int what] : List Value).toArray below meth c H locs 0 0 (MQ below (zQm G (True) (some (.int ((mf_walks m_at m_beside Wd R what).1))) (mW G ad ((mf_walks m_at m_beside Wd R what).2.1) m_top m_bottom m_taped m_size m_token m_from m_end m_value m_faultKind m_faultPlace m_faults m_seen m_depth m_counted m_lead m_round m_tried m_triedMany m_drawn m_ranSteps m_isTold m_marks m_at m_names m_sort m_trayMany m_trays m_tape m_text m_opened ((mf_walks m_at m_beside Wd R what).2.2) m_then m_ways m_further m_canBe m_loops m_ran m_told0) A) ([.ref (ad 0), .int what] : List Value).toArray s 0 0 A) (F0 m 132 ls []) := by
                      intro t_10 ht_10 H locs hP hD hS ls hl
                      refine lv_iinc (v := nI (s_8 + 1) - 5) (lv' := [(4, .int (nI (s_8 + 1) - 5)), (2, .int (mf_becomes m_at t_5 Wd R s_6.2 (m_at 10))), (3, .int (nI s_6.1)), (0, .ref (ad 0)), (1, .int what)]) hx hb dX7_walks_132 hl (k := 0) rfl (z_aff s_8 5 1) (by decide) rfl (fun ls hl => ?_)
                      refine lv_goto (tgt := 67) hx hb dX7_walks_135 (by decide) ?_
                      exact ih_8 (s_8 + 1) (by omega) ((zw_l (by rw [mf_walks_B67, if_neg c_9, zcase_l ht_10])).symm.trans hR_8) (by omega) H locs hP hD hS ls (lv_sub hl [0, 1, 2, 3, 4] rfl)
                    have hlp_10 : ∀ (n : Nat) (s_10 : Nat), 9 - s_10 < n → zw (mf_walks_B77 m_at Wd R what t_5 s_6 s_8) (.inl 0) n s_10 = mf_walks_L77 m_at Wd R what t_5 s_6 s_8 0 → s_10 < 10 → ∀ (H : Heap) (locs : List Loc), va_P G.1 zcl (mW G ad m_status m_top m_bottom m_taped m_size m_token m_from m_end m_value m_faultKind m_faultPlace m_faults m_seen m_depth m_counted m_lead m_round m_tried m_triedMany m_drawn m_ranSteps m_isTold m_marks m_at m_names m_sort m_trayMany m_trays m_tape m_text m_opened t_5 m_then m_ways m_further m_canBe m_loops m_ran m_told0) H → va_D A (mW G ad m_status m_top m_bottom m_taped m_size m_token m_from m_end m_value m_faultKind m_faultPlace m_faults m_seen m_depth m_counted m_lead m_round m_tried m_triedMany m_drawn m_ranSteps m_isTold m_marks m_at m_names m_sort m_trayMany m_trays m_tape m_text m_opened t_5 m_then m_ways m_further m_canBe m_loops m_ran m_told0) → va_S A s.heap H locs → ∀ ls : Array Slot, lv_has ls 6 [(5, .int (nI s_10 - 4)), (4, .int (nI s_8 - 5)), (2, .int (mf_becomes m_at t_5 Wd R s_6.2 (m_at 10))), (3, .int (nI s_6.1)), (0, .ref (ad 0)), (1, .int what)] → W p l e (zR 4 0 0) s m ([.ref (ad 0), .int what] : List Value).toArray below meth c H locs 0 0 (MQ below (zQm G (True) (some (.int ((mf_walks m_at m_beside Wd R what).1))) (mW G ad ((mf_walks m_at m_beside Wd R what).2.1) m_top m_bottom m_taped m_size m_token m_from m_end m_value m_faultKind m_faultPlace m_faults m_seen m_depth m_counted m_lead m_round m_tried m_triedMany m_drawn m_ranSteps m_isTold m_marks m_at m_names m_sort m_trayMany m_trays m_tape m_text m_opened ((mf_walks m_at m_beside Wd R what).2.2) m_then m_ways m_further m_canBe m_loops m_ran m_told0) A) ([.ref (ad 0), .int what] : List Value).toArray s 0 0 A) (F0 m 77 ls []) := by
                      intro n
                      induction n with
                      | zero => exact fun _ h => absurd h (Nat.not_lt_zero _)
                      | succ n ih_10 =>
                        intro s_10 hmu_10 hR_10 hi5 H locs hP hD hS ls hl
                        refine lv_iload hx hb dX7_walks_77 (lv_at hl 0 rfl) ?_
                        refine lv_iconst (v := 4) hx hb dX7_walks_79 (by decide) ?_
                        refine lv_icmp_gt (tgt := 132) hx hb dX7_walks_80 (by decide) (fun c_11 => ?_) (fun c_11 => ?_)
                        · exact hx_10 s_10 (hR_10.symm.trans (zw_r (by rw [mf_walks_B77, if_pos c_11]))) H locs hP hD hS ls (lv_sub hl [1, 2, 3, 4, 5] rfl)
                        · have hj5 := z_a4 _ hi5 c_11
                          refine lv_aload_n hx hb dX7_walks_83 rfl (lv_at hl 4 rfl) ?_
                          refine lv_aload_n hx hb dX7_walks_84 rfl (lv_at hl 4 rfl) ?_
                          refine va_get (D := G.1) (ci := 7) (v := .ref (ad 1)) (C := RX7) (T := TX7) (N := 39) hx hb hts in_X7 hown hK.1 hP 0 rfl rfl 0 (Nat.le_of_ble_eq_true rfl) (hts _ q1467) (fun _ h => h) rfl dX7_walks_85 ?_
                          refine lv_iconst (v := 3) hx hb dX7_walks_88 (by decide) ?_
                          refine zr_iald 3 (v := m_at 3) hx hb hK hP 1 rfl rfl (Nat.le_of_ble_eq_true rfl) rfl (by decide) rfl dX7_walks_89 ?_
                          refine lv_iload hx hb dX7_walks_90 (lv_at hl 0 rfl) ?_
                          refine lv_iload hx hb dX7_walks_92 (lv_at hl 1 rfl) ?_
                          refine zr_obV ⟨hx, hb, hml, hown, hts⟩ (mt_mf_moved l G ad m_status m_top m_bottom m_taped m_size m_token m_from m_end m_value m_faultKind m_faultPlace m_faults m_seen m_depth m_counted m_lead m_round m_tried m_triedMany m_drawn m_ranSteps m_isTold m_marks m_at m_names m_sort m_trayMany m_trays m_tape m_text m_opened t_5 m_then m_ways m_further m_canBe m_loops m_ran m_told0 Wd R nr nc (m_at 3) (nI s_10 - 4) (nI s_8 - 5) hG) (cwV 3 hts (lw_V q1922 q1924 qs109 q144 q1925) rfl rfl rfl hd_X7_moved ⟨(Nat.le_of_ble_eq_true rfl), (Nat.le_of_ble_eq_true rfl)⟩) hP hK (zE_o hE hS) 0 7 rfl rfl rfl hl.1 rfl (Nat.le_of_ble_eq_true rfl) dX7_walks_94 ⟨Nat.le_refl _, Nat.le_refl _⟩ ?_
                          refine lv_iload_n hx hb dX7_walks_97 rfl (lv_at hl 2 rfl) ?_
                          refine lv_icmp_ne (tgt := 126) hx hb dX7_walks_98 (by decide) (fun c_12 => ?_) (fun c_12 => ?_)
                          · refine lv_iinc (v := nI (s_10 + 1) - 4) (lv' := [(5, .int (nI (s_10 + 1) - 4)), (4, .int (nI s_8 - 5)), (2, .int (mf_becomes m_at t_5 Wd R s_6.2 (m_at 10))), (3, .int (nI s_6.1)), (0, .ref (ad 0)), (1, .int what)]) hx hb dX7_walks_126 hl (k := 0) rfl (z_aff s_10 4 1) (by decide) rfl (fun ls hl => ?_)
                            refine lv_goto (tgt := 77) hx hb dX7_walks_129 (by decide) ?_
                            exact ih_10 (s_10 + 1) (by omega) ((zw_l (by rw [mf_walks_B77, if_neg c_11, if_neg c_12])).symm.trans hR_10) (by omega) H locs hP hD hS ls (lv_sub hl [0, 1, 2, 3, 4, 5] rfl)
                          · refine lv_aload_n hx hb dX7_walks_101 rfl (lv_at hl 4 rfl) ?_
                            refine lv_iload_n hx hb dX7_walks_102 rfl (lv_at hl 5 rfl) ?_
                            refine lv_if_ne (tgt := 110) hx hb dX7_walks_103 (by decide) (fun c_13 => ?_) (fun c_13 => ?_)
                            · refine lv_iload_n hx hb dX7_walks_110 rfl (lv_at hl 5 rfl) ?_
                              refine lv_iconst (v := 1) hx hb dX7_walks_111 (by decide) ?_
                              refine lv_icmp_ne (tgt := 120) hx hb dX7_walks_112 (by decide) (fun c_14 => ?_) (fun c_14 => ?_)
                              · refine lv_iload hx hb dX7_walks_120 (lv_at hl 1 rfl) ?_
                                refine zr_muV (F := ()) (ff := fun _ => True) (rr := fun _ => some (.int (nI s_8 - 5))) (w1 := fun _ => (mW G ad 0 m_top m_bottom m_taped m_size m_token m_from m_end m_value m_faultKind m_faultPlace m_faults m_seen m_depth m_counted m_lead m_round m_tried m_triedMany m_drawn m_ranSteps m_isTold m_marks m_at m_names m_sort m_trayMany m_trays m_tape m_text m_opened t_5 m_then m_ways m_further m_canBe m_loops m_ran m_told0)) ⟨hx, hb, hml, hown, hts⟩ (mt_mf_gives l G ad m_status m_top m_bottom m_taped m_size m_token m_from m_end m_value m_faultKind m_faultPlace m_faults m_seen m_depth m_counted m_lead m_round m_tried m_triedMany m_drawn m_ranSteps m_isTold m_marks m_at m_names m_sort m_trayMany m_trays m_tape m_text m_opened t_5 m_then m_ways m_further m_canBe m_loops m_ran m_told0 (nI s_8 - 5) H.size) (cwV 1 hts (lw_V q1751 q1753 qs85 q144 q1754) rfl rfl rfl hd_X7_gives ⟨(Nat.le_of_ble_eq_true rfl), (Nat.le_of_ble_eq_true rfl)⟩) hP hD hS hA hK hE 0 7 rfl rfl rfl hl.1 rfl (Nat.le_of_ble_eq_true rfl) dX7_walks_122 ⟨Nat.le_refl _, Nat.le_refl _⟩ (fun _ _ _ H locs hP hD hS _ => ?_)
                                refine W.eq (g2 := F0 m 125 ls [.int (nI s_8 - 5)]) rfl ?_
                                have hr_10 : mf_walks_L77 m_at Wd R what t_5 s_6 s_8 0 = .inr (nI s_8 - 5, 0, t_5) := hR_10.symm.trans (zw_r (by rw [mf_walks_B77, if_neg c_11, if_pos c_12, if_neg c_13, if_neg c_14]))
                                have hr_8 : mf_walks_L67 m_at Wd R what t_5 s_6 0 = .inr (nI s_8 - 5, 0, t_5) := hR_8.symm.trans (zw_r (by rw [mf_walks_B67, if_neg c_9, zcase_r hr_10]))
                                have hr_6 : mf_walks_L44 m_at Wd R what t_5 (1, m_at 3) = .inr (nI s_8 - 5, 0, t_5) := hR_6.symm.trans (zw_r (by rw [mf_walks_B44, if_neg c_7, zcase_r hr_8]))
                                have e_ : mf_walks m_at m_beside Wd R what = (nI s_8 - 5, 0, t_5) := by rw [mf_walks, if_neg c_1, if_pos c_3, if_neg c_4, zlet_eq ht_5, zcase_r hr_6]
                                exact zr_mi hx hb hr hlocks hP hD hS dX7_walks_125 (by rw [e_])  (by rw [e_]) trivial
                              · refine lv_iload hx hb dX7_walks_115 (lv_at hl 0 rfl) ?_
                                refine lv_goto (tgt := 122) hx hb dX7_walks_117 (by decide) ?_
                                refine zr_muV (F := ()) (ff := fun _ => True) (rr := fun _ => some (.int (nI s_10 - 4))) (w1 := fun _ => (mW G ad 0 m_top m_bottom m_taped m_size m_token m_from m_end m_value m_faultKind m_faultPlace m_faults m_seen m_depth m_counted m_lead m_round m_tried m_triedMany m_drawn m_ranSteps m_isTold m_marks m_at m_names m_sort m_trayMany m_trays m_tape m_text m_opened t_5 m_then m_ways m_further m_canBe m_loops m_ran m_told0)) ⟨hx, hb, hml, hown, hts⟩ (mt_mf_gives l G ad m_status m_top m_bottom m_taped m_size m_token m_from m_end m_value m_faultKind m_faultPlace m_faults m_seen m_depth m_counted m_lead m_round m_tried m_triedMany m_drawn m_ranSteps m_isTold m_marks m_at m_names m_sort m_trayMany m_trays m_tape m_text m_opened t_5 m_then m_ways m_further m_canBe m_loops m_ran m_told0 (nI s_10 - 4) H.size) (cwV 1 hts (lw_V q1751 q1753 qs85 q144 q1754) rfl rfl rfl hd_X7_gives ⟨(Nat.le_of_ble_eq_true rfl), (Nat.le_of_ble_eq_true rfl)⟩) hP hD hS hA hK hE 0 7 rfl rfl rfl hl.1 rfl (Nat.le_of_ble_eq_true rfl) dX7_walks_122 ⟨Nat.le_refl _, Nat.le_refl _⟩ (fun _ _ _ H locs hP hD hS _ => ?_)
                                refine W.eq (g2 := F0 m 125 ls [.int (nI s_10 - 4)]) rfl ?_
                                have hr_10 : mf_walks_L77 m_at Wd R what t_5 s_6 s_8 0 = .inr (nI s_10 - 4, 0, t_5) := hR_10.symm.trans (zw_r (by rw [mf_walks_B77, if_neg c_11, if_pos c_12, if_neg c_13, if_pos c_14]))
                                have hr_8 : mf_walks_L67 m_at Wd R what t_5 s_6 0 = .inr (nI s_10 - 4, 0, t_5) := hR_8.symm.trans (zw_r (by rw [mf_walks_B67, if_neg c_9, zcase_r hr_10]))
                                have hr_6 : mf_walks_L44 m_at Wd R what t_5 (1, m_at 3) = .inr (nI s_10 - 4, 0, t_5) := hR_6.symm.trans (zw_r (by rw [mf_walks_B44, if_neg c_7, zcase_r hr_8]))
                                have e_ : mf_walks m_at m_beside Wd R what = (nI s_10 - 4, 0, t_5) := by rw [mf_walks, if_neg c_1, if_pos c_3, if_neg c_4, zlet_eq ht_5, zcase_r hr_6]
                                exact zr_mi hx hb hr hlocks hP hD hS dX7_walks_125 (by rw [e_])  (by rw [e_]) trivial
                            · refine lv_iload_n hx hb dX7_walks_106 rfl (lv_at hl 3 rfl) ?_
                              refine lv_goto (tgt := 122) hx hb dX7_walks_107 (by decide) ?_
                              refine zr_muV (F := ()) (ff := fun _ => True) (rr := fun _ => some (.int (nI s_6.1))) (w1 := fun _ => (mW G ad 0 m_top m_bottom m_taped m_size m_token m_from m_end m_value m_faultKind m_faultPlace m_faults m_seen m_depth m_counted m_lead m_round m_tried m_triedMany m_drawn m_ranSteps m_isTold m_marks m_at m_names m_sort m_trayMany m_trays m_tape m_text m_opened t_5 m_then m_ways m_further m_canBe m_loops m_ran m_told0)) ⟨hx, hb, hml, hown, hts⟩ (mt_mf_gives l G ad m_status m_top m_bottom m_taped m_size m_token m_from m_end m_value m_faultKind m_faultPlace m_faults m_seen m_depth m_counted m_lead m_round m_tried m_triedMany m_drawn m_ranSteps m_isTold m_marks m_at m_names m_sort m_trayMany m_trays m_tape m_text m_opened t_5 m_then m_ways m_further m_canBe m_loops m_ran m_told0 (nI s_6.1) H.size) (cwV 1 hts (lw_V q1751 q1753 qs85 q144 q1754) rfl rfl rfl hd_X7_gives ⟨(Nat.le_of_ble_eq_true rfl), (Nat.le_of_ble_eq_true rfl)⟩) hP hD hS hA hK hE 0 7 rfl rfl rfl hl.1 rfl (Nat.le_of_ble_eq_true rfl) dX7_walks_122 ⟨Nat.le_refl _, Nat.le_refl _⟩ (fun _ _ _ H locs hP hD hS _ => ?_)
                              refine W.eq (g2 := F0 m 125 ls [.int (nI s_6.1)]) rfl ?_
                              have hr_10 : mf_walks_L77 m_at Wd R what t_5 s_6 s_8 0 = .inr (nI s_6.1, 0, t_5) := hR_10.symm.trans (zw_r (by rw [mf_walks_B77, if_neg c_11, if_pos c_12, if_pos c_13]))
                              have hr_8 : mf_walks_L67 m_at Wd R what t_5 s_6 0 = .inr (nI s_6.1, 0, t_5) := hR_8.symm.trans (zw_r (by rw [mf_walks_B67, if_neg c_9, zcase_r hr_10]))
                              have hr_6 : mf_walks_L44 m_at Wd R what t_5 (1, m_at 3) = .inr (nI s_6.1, 0, t_5) := hR_6.symm.trans (zw_r (by rw [mf_walks_B44, if_neg c_7, zcase_r hr_8]))
                              have e_ : mf_walks m_at m_beside Wd R what = (nI s_6.1, 0, t_5) := by rw [mf_walks, if_neg c_1, if_pos c_3, if_neg c_4, zlet_eq ht_5, zcase_r hr_6]
                              exact zr_mi hx hb hr hlocks hP hD hS dX7_walks_125 (by rw [e_])  (by rw [e_]) trivial
                    have hl := lv_sub hl (l' := [(5, .int (-4)), (4, .int (nI s_8 - 5)), (2, .int (mf_becomes m_at t_5 Wd R s_6.2 (m_at 10))), (3, .int (nI s_6.1)), (0, .ref (ad 0)), (1, .int what)]) [0, 1, 2, 3, 4, 5] rfl
                    have hl : lv_has ls 6 [(5, .int (nI 0 - 4)), (4, .int (nI s_8 - 5)), (2, .int (mf_becomes m_at t_5 Wd R s_6.2 (m_at 10))), (3, .int (nI s_6.1)), (0, .ref (ad 0)), (1, .int what)] := by rw [show (nI 0 - 4 : Int32) = (-4) from by decide]; exact hl
                    exact hlp_10 _ 0 (Nat.lt_succ_self _) (by rw [mf_walks_L77]) (by omega) H locs hP hD hS ls (lv_sub hl [0, 1, 2, 3, 4, 5] rfl)
              have hl := lv_sub hl (l' := [(4, .int (-5)), (2, .int (mf_becomes m_at t_5 Wd R s_6.2 (m_at 10))), (3, .int (nI s_6.1)), (0, .ref (ad 0)), (1, .int what)]) [0, 1, 2, 3, 4] rfl
              have hl : lv_has ls 6 [(4, .int (nI 0 - 5)), (2, .int (mf_becomes m_at t_5 Wd R s_6.2 (m_at 10))), (3, .int (nI s_6.1)), (0, .ref (ad 0)), (1, .int what)] := by rw [show (nI 0 - 5 : Int32) = (-5) from by decide]; exact hl
              exact hlp_8 _ 0 (Nat.lt_succ_self _) (by rw [mf_walks_L67]) (by omega) H locs hP hD hS ls (lv_sub hl [0, 1, 2, 3, 4] rfl)
        exact hlp_6 _ (1, m_at 3) (Nat.lt_succ_self _) (by rw [mf_walks_L44]) (by omega) H locs hP hD hS ls (lv_sub hl [0, 1, 2, 3] rfl)
      · refine lv_aload_n hx hb dX7_walks_24 rfl (lv_at hl 0 rfl) ?_
        refine lv_bipush (v := 6) hx hb dX7_walks_25 (by decide) ?_
        refine zr_muV (F := ()) (ff := fun _ => True) (rr := fun _ => some (.int (-1))) (w1 := fun _ => (mW G ad 6 m_top m_bottom m_taped m_size m_token m_from m_end m_value m_faultKind m_faultPlace m_faults m_seen m_depth m_counted m_lead m_round m_tried m_triedMany m_drawn m_ranSteps m_isTold m_marks m_at m_names m_sort m_trayMany m_trays m_tape m_text m_opened m_beside m_then m_ways m_further m_canBe m_loops m_ran m_told0)) ⟨hx, hb, hml, hown, hts⟩ (mt_mf_refuse l G ad m_status m_top m_bottom m_taped m_size m_token m_from m_end m_value m_faultKind m_faultPlace m_faults m_seen m_depth m_counted m_lead m_round m_tried m_triedMany m_drawn m_ranSteps m_isTold m_marks m_at m_names m_sort m_trayMany m_trays m_tape m_text m_opened m_beside m_then m_ways m_further m_canBe m_loops m_ran m_told0 6 H.size) (cwV 1 hts (lw_V q1666 q1668 qs66 q144 q1669) rfl rfl rfl hd_X7_refuse ⟨(Nat.le_of_ble_eq_true rfl), (Nat.le_of_ble_eq_true rfl)⟩) hP hD hS hA hK hE 0 7 rfl rfl rfl hl.1 rfl (Nat.le_of_ble_eq_true rfl) dX7_walks_27 ⟨Nat.le_refl _, Nat.le_refl _⟩ (fun _ _ _ H locs hP hD hS _ => ?_)
        refine W.eq (g2 := F0 m 30 ls [.int (-1)]) rfl ?_
        have e_ : mf_walks m_at m_beside Wd R what = ((-1), 6, m_beside) := by rw [mf_walks, if_neg c_1, if_pos c_3, if_pos c_4]
        exact zr_mi hx hb hr hlocks hP hD hS dX7_walks_30 (by rw [e_])  (by rw [e_]) trivial
    · refine lv_aload_n hx hb dX7_walks_9 rfl (lv_at hl 0 rfl) ?_
      refine lv_iconst (v := 1) hx hb dX7_walks_10 (by decide) ?_
      refine zr_muV (F := ()) (ff := fun _ => True) (rr := fun _ => some (.int (-1))) (w1 := fun _ => (mW G ad 1 m_top m_bottom m_taped m_size m_token m_from m_end m_value m_faultKind m_faultPlace m_faults m_seen m_depth m_counted m_lead m_round m_tried m_triedMany m_drawn m_ranSteps m_isTold m_marks m_at m_names m_sort m_trayMany m_trays m_tape m_text m_opened m_beside m_then m_ways m_further m_canBe m_loops m_ran m_told0)) ⟨hx, hb, hml, hown, hts⟩ (mt_mf_refuse l G ad m_status m_top m_bottom m_taped m_size m_token m_from m_end m_value m_faultKind m_faultPlace m_faults m_seen m_depth m_counted m_lead m_round m_tried m_triedMany m_drawn m_ranSteps m_isTold m_marks m_at m_names m_sort m_trayMany m_trays m_tape m_text m_opened m_beside m_then m_ways m_further m_canBe m_loops m_ran m_told0 1 H.size) (cwV 1 hts (lw_V q1666 q1668 qs66 q144 q1669) rfl rfl rfl hd_X7_refuse ⟨(Nat.le_of_ble_eq_true rfl), (Nat.le_of_ble_eq_true rfl)⟩) hP hD hS hA hK hE 0 7 rfl rfl rfl hl.1 rfl (Nat.le_of_ble_eq_true rfl) dX7_walks_11 ⟨Nat.le_refl _, Nat.le_refl _⟩ (fun _ _ _ H locs hP hD hS _ => ?_)
      refine W.eq (g2 := F0 m 14 ls [.int (-1)]) rfl ?_
      have e_ : mf_walks m_at m_beside Wd R what = ((-1), 1, m_beside) := by rw [mf_walks, if_neg c_1, if_neg c_3]
      exact zr_mi hx hb hr hlocks hP hD hS dX7_walks_14 (by rw [e_])  (by rw [e_]) trivial
def mf_isStill (m_at : Nat → Int32) (m_beside : Nat → Int32) (Wd : Nat) (R : Nat) : Bool × (Nat → Int32) :=
  zlet (mf_after m_at m_beside Wd R (m_at 3) 1) (fun t_1 =>
  (if t_1.1 = (m_at 3) then
    (true, t_1.2)
  else
    (false, t_1.2)))
theorem hd_X7_isStill : yX7_isStill.cls = RX7 ∧ yX7_isStill.cls ≠ "java/lang/invoke/MethodHandle" ∧ yX7_isStill.cls ≠ "java/lang/invoke/VarHandle" ∧ (parseMethodDescriptor yX7_isStill.desc).map (fun d => d.parameters.length) = some 0 := by decide +kernel
set_option maxHeartbeats 4000000 in
set_option maxRecDepth 100000 in
theorem mt_mf_isStill (l : Launch) (G : zG) (ad : Nat → Nat) (m_status : Int32) (m_top : Int64) (m_bottom : Int64) (m_taped : Int32) (m_size : Int32) (m_token : Int32) (m_from : Int32) (m_end : Int32) (m_value : Int32) (m_faultKind : Int32) (m_faultPlace : Int32) (m_faults : Int32) (m_seen : Int32) (m_depth : Int32) (m_counted : Int32) (m_lead : Int32) (m_round : Int32) (m_tried : Int32) (m_triedMany : Int32) (m_drawn : Int32) (m_ranSteps : Int32) (m_isTold : Bool) (m_marks : Int32) (m_at : Nat → Int32) (m_names : Nat → Int64) (m_sort : Nat → Int32) (m_trayMany : Nat → Int32) (m_trays : Nat → Int64) (m_tape : Nat → Int32) (m_text : Nat → Int32) (m_opened : Nat → Int32) (m_beside : Nat → Int32) (m_then : Nat → Int32) (m_ways : Nat → Int64) (m_further : Nat → Int64) (m_canBe : Nat → Int32) (m_loops : Nat → Int32) (m_ran : Nat → Int32) (m_told0 : Nat → Int32) (Wd : Nat) (R : Nat) (nr : Nat) (nc : Nat) (hG : mOK m_at Wd R nr nc) (sz : Nat) : Met l yX7_isStill (ws_ yX7_isStill cX7_isStill 1 (some .boolean)) (zR 5 0 0) (zPm G sz [.ref (ad 0)] (mW G ad m_status m_top m_bottom m_taped m_size m_token m_from m_end m_value m_faultKind m_faultPlace m_faults m_seen m_depth m_counted m_lead m_round m_tried m_triedMany m_drawn m_ranSteps m_isTold m_marks m_at m_names m_sort m_trayMany m_trays m_tape m_text m_opened m_beside m_then m_ways m_further m_canBe m_loops m_ran m_told0)) (zQm G (True) (some (.int (zb ((mf_isStill m_at m_beside Wd R).1)))) (mW G ad m_status m_top m_bottom m_taped m_size m_token m_from m_end m_value m_faultKind m_faultPlace m_faults m_seen m_depth m_counted m_lead m_round m_tried m_triedMany m_drawn m_ranSteps m_isTold m_marks m_at m_names m_sort m_trayMany m_trays m_tape m_text m_opened ((mf_isStill m_at m_beside Wd R).2) m_then m_ways m_further m_canBe m_loops m_ran m_told0) (va_A (mW G ad m_status m_top m_bottom m_taped m_size m_token m_from m_end m_value m_faultKind m_faultPlace m_faults m_seen m_depth m_counted m_lead m_round m_tried m_triedMany m_drawn m_ranSteps m_isTold m_marks m_at m_names m_sort m_trayMany m_trays m_tape m_text m_opened m_beside m_then m_ways m_further m_canBe m_loops m_ran m_told0) sz)) 0 0 (va_A (mW G ad m_status m_top m_bottom m_taped m_size m_token m_from m_end m_value m_faultKind m_faultPlace m_faults m_seen m_depth m_counted m_lead m_round m_tried m_triedMany m_drawn m_ranSteps m_isTold m_marks m_at m_names m_sort m_trayMany m_trays m_tape m_text m_opened m_beside m_then m_ways m_further m_canBe m_loops m_ran m_told0) sz) := by
  refine zr_entM (by decide) (Nat.le_of_ble_eq_true rfl) ?_
  intro p e s m below meth c ⟨hx, hb, hr, hml, hown, hts, hlocks, hnm⟩ ls hl hP hK A hE hA hD hS
  have hown : s.vm.findClass RX7 = some m.cls := hown
  have hl : lv_has ls 1 [(0, .ref (ad 0))] := hl
  obtain ⟨H, hH⟩ : ∃ H, H = s.heap := ⟨_, rfl⟩
  obtain ⟨locs, hlo⟩ : ∃ L : List Loc, L = [] := ⟨_, rfl⟩
  rw [← hH] at hP
  have hS : va_S A s.heap H locs := by rw [hH, hlo]; exact va_S.rf
  have hgo : W p l e (zR 5 0 0) s m ([.ref (ad 0)] : List Value).toArray below meth c H locs 0 0 (MQ below (zQm G (True) (some (.int (zb ((mf_isStill m_at m_beside Wd R).1)))) (mW G ad m_status m_top m_bottom m_taped m_size m_token m_from m_end m_value m_faultKind m_faultPlace m_faults m_seen m_depth m_counted m_lead m_round m_tried m_triedMany m_drawn m_ranSteps m_isTold m_marks m_at m_names m_sort m_trayMany m_trays m_tape m_text m_opened ((mf_isStill m_at m_beside Wd R).2) m_then m_ways m_further m_canBe m_loops m_ran m_told0) A) ([.ref (ad 0)] : List Value).toArray s 0 0 A) (F0 m 0 ls []) := ?_
  · rw [hH, hlo] at hgo; exact hgo
  clear hH hlo
  have hWR := mOK_WR hG
  have hW0 := mOK_W0 hG
  have hW5 := mOK_W5 hG
  have hR0 := mOK_R0 hG
  have hR6 := mOK_R6 hG
  have hn4 := mOK_n4 hG
  have hc6 := mOK_c6 hG
  refine lv_aload_n hx hb dX7_isStill_0 rfl (lv_at hl 0 rfl) ?_
  refine lv_aload_n hx hb dX7_isStill_1 rfl (lv_at hl 0 rfl) ?_
  refine va_get (D := G.1) (ci := 7) (v := .ref (ad 1)) (C := RX7) (T := TX7) (N := 39) hx hb hts in_X7 hown hK.1 hP 0 rfl rfl 0 (Nat.le_of_ble_eq_true rfl) (hts _ q1467) (fun _ h => h) rfl dX7_isStill_2 ?_
  refine lv_iconst (v := 3) hx hb dX7_isStill_5 (by decide) ?_
  refine zr_iald 3 (v := m_at 3) hx hb hK hP 1 rfl rfl (Nat.le_of_ble_eq_true rfl) rfl (by decide) rfl dX7_isStill_6 ?_
  refine lv_iconst (v := 1) hx hb dX7_isStill_7 (by decide) ?_
  refine zr_muV (F := mf_after m_at m_beside Wd R (m_at 3) 1) (ff := fun t_1 => True) (rr := fun t_1 => some (.int t_1.1)) (w1 := fun t_1 => (mW G ad m_status m_top m_bottom m_taped m_size m_token m_from m_end m_value m_faultKind m_faultPlace m_faults m_seen m_depth m_counted m_lead m_round m_tried m_triedMany m_drawn m_ranSteps m_isTold m_marks m_at m_names m_sort m_trayMany m_trays m_tape m_text m_opened t_1.2 m_then m_ways m_further m_canBe m_loops m_ran m_told0)) ⟨hx, hb, hml, hown, hts⟩ (mt_mf_after l G ad m_status m_top m_bottom m_taped m_size m_token m_from m_end m_value m_faultKind m_faultPlace m_faults m_seen m_depth m_counted m_lead m_round m_tried m_triedMany m_drawn m_ranSteps m_isTold m_marks m_at m_names m_sort m_trayMany m_trays m_tape m_text m_opened m_beside m_then m_ways m_further m_canBe m_loops m_ran m_told0 Wd R nr nc (m_at 3) 1 hG (by first | assumption | exact hnn | omega) H.size) (cwV 2 hts (lw_V q1901 q1903 qs107 q144 q1904) rfl rfl rfl hd_X7_after ⟨(Nat.le_of_ble_eq_true rfl), (Nat.le_of_ble_eq_true rfl)⟩) hP hD hS hA hK hE 0 7 rfl rfl rfl hl.1 rfl (Nat.le_of_ble_eq_true rfl) dX7_isStill_8 ⟨Nat.le_refl _, Nat.le_refl _⟩ (fun t_1 ht_1 hft_1 H locs hP hD hS _ => ?_)
  refine W.eq (g2 := F0 m 11 ls [.int t_1.1]) rfl ?_
  refine lv_aload_n hx hb dX7_isStill_11 rfl (lv_at hl 0 rfl) ?_
  refine va_get (D := G.1) (ci := 7) (v := .ref (ad 1)) (C := RX7) (T := TX7) (N := 39) hx hb hts in_X7 hown hK.1 hP 0 rfl rfl 0 (Nat.le_of_ble_eq_true rfl) (hts _ q1467) (fun _ h => h) rfl dX7_isStill_12 ?_
  refine lv_iconst (v := 3) hx hb dX7_isStill_15 (by decide) ?_
  refine zr_iald 3 (v := m_at 3) hx hb hK hP 1 rfl rfl (Nat.le_of_ble_eq_true rfl) rfl (by decide) rfl dX7_isStill_16 ?_
  refine lv_icmp_ne (tgt := 24) hx hb dX7_isStill_17 (by decide) (fun c_2 => ?_) (fun c_2 => ?_)
  · refine lv_iconst (v := 0) hx hb dX7_isStill_24 (by decide) ?_
    have e_ : mf_isStill m_at m_beside Wd R = (false, t_1.2) := by rw [mf_isStill, zlet_eq ht_1, if_neg c_2]
    exact zr_mz hx hb hr hlocks hP hD hS dX7_isStill_25 rfl (by rw [e_]; rfl) (by rw [e_]) trivial
  · refine lv_iconst (v := 1) hx hb dX7_isStill_20 (by decide) ?_
    refine lv_goto (tgt := 25) hx hb dX7_isStill_21 (by decide) ?_
    have e_ : mf_isStill m_at m_beside Wd R = (true, t_1.2) := by rw [mf_isStill, zlet_eq ht_1, if_pos c_2]
    exact zr_mz hx hb hr hlocks hP hD hS dX7_isStill_25 rfl (by rw [e_]; rfl) (by rw [e_]) trivial
def mf_still (m_at : Nat → Int32) (m_beside : Nat → Int32) (Wd : Nat) (R : Nat) : Int32 × Int32 × (Nat → Int32) :=
  zlet (mf_isStill m_at m_beside Wd R) (fun t_1 =>
  (if t_1.1 = true then
    (1, 0, t_1.2)
  else
    (0, 0, t_1.2)))
theorem hd_X7_still : yX7_still.cls = RX7 ∧ yX7_still.cls ≠ "java/lang/invoke/MethodHandle" ∧ yX7_still.cls ≠ "java/lang/invoke/VarHandle" ∧ (parseMethodDescriptor yX7_still.desc).map (fun d => d.parameters.length) = some 0 := by decide +kernel
set_option maxHeartbeats 4000000 in
set_option maxRecDepth 100000 in
theorem mt_mf_still (l : Launch) (G : zG) (ad : Nat → Nat) (m_status : Int32) (m_top : Int64) (m_bottom : Int64) (m_taped : Int32) (m_size : Int32) (m_token : Int32) (m_from : Int32) (m_end : Int32) (m_value : Int32) (m_faultKind : Int32) (m_faultPlace : Int32) (m_faults : Int32) (m_seen : Int32) (m_depth : Int32) (m_counted : Int32) (m_lead : Int32) (m_round : Int32) (m_tried : Int32) (m_triedMany : Int32) (m_drawn : Int32) (m_ranSteps : Int32) (m_isTold : Bool) (m_marks : Int32) (m_at : Nat → Int32) (m_names : Nat → Int64) (m_sort : Nat → Int32) (m_trayMany : Nat → Int32) (m_trays : Nat → Int64) (m_tape : Nat → Int32) (m_text : Nat → Int32) (m_opened : Nat → Int32) (m_beside : Nat → Int32) (m_then : Nat → Int32) (m_ways : Nat → Int64) (m_further : Nat → Int64) (m_canBe : Nat → Int32) (m_loops : Nat → Int32) (m_ran : Nat → Int32) (m_told0 : Nat → Int32) (Wd : Nat) (R : Nat) (nr : Nat) (nc : Nat) (hG : mOK m_at Wd R nr nc) (sz : Nat) : Met l yX7_still (ws_ yX7_still cX7_still 1 (some .int)) (zR 6 0 0) (zPm G sz [.ref (ad 0)] (mW G ad m_status m_top m_bottom m_taped m_size m_token m_from m_end m_value m_faultKind m_faultPlace m_faults m_seen m_depth m_counted m_lead m_round m_tried m_triedMany m_drawn m_ranSteps m_isTold m_marks m_at m_names m_sort m_trayMany m_trays m_tape m_text m_opened m_beside m_then m_ways m_further m_canBe m_loops m_ran m_told0)) (zQm G (True) (some (.int ((mf_still m_at m_beside Wd R).1))) (mW G ad ((mf_still m_at m_beside Wd R).2.1) m_top m_bottom m_taped m_size m_token m_from m_end m_value m_faultKind m_faultPlace m_faults m_seen m_depth m_counted m_lead m_round m_tried m_triedMany m_drawn m_ranSteps m_isTold m_marks m_at m_names m_sort m_trayMany m_trays m_tape m_text m_opened ((mf_still m_at m_beside Wd R).2.2) m_then m_ways m_further m_canBe m_loops m_ran m_told0) (va_A (mW G ad m_status m_top m_bottom m_taped m_size m_token m_from m_end m_value m_faultKind m_faultPlace m_faults m_seen m_depth m_counted m_lead m_round m_tried m_triedMany m_drawn m_ranSteps m_isTold m_marks m_at m_names m_sort m_trayMany m_trays m_tape m_text m_opened m_beside m_then m_ways m_further m_canBe m_loops m_ran m_told0) sz)) 0 0 (va_A (mW G ad m_status m_top m_bottom m_taped m_size m_token m_from m_end m_value m_faultKind m_faultPlace m_faults m_seen m_depth m_counted m_lead m_round m_tried m_triedMany m_drawn m_ranSteps m_isTold m_marks m_at m_names m_sort m_trayMany m_trays m_tape m_text m_opened m_beside m_then m_ways m_further m_canBe m_loops m_ran m_told0) sz) := by
  refine zr_entM (by decide) (Nat.le_of_ble_eq_true rfl) ?_
  intro p e s m below meth c ⟨hx, hb, hr, hml, hown, hts, hlocks, hnm⟩ ls hl hP hK A hE hA hD hS
  have hown : s.vm.findClass RX7 = some m.cls := hown
  have hl : lv_has ls 1 [(0, .ref (ad 0))] := hl
  obtain ⟨H, hH⟩ : ∃ H, H = s.heap := ⟨_, rfl⟩
  obtain ⟨locs, hlo⟩ : ∃ L : List Loc, L = [] := ⟨_, rfl⟩
  rw [← hH] at hP
  have hS : va_S A s.heap H locs := by rw [hH, hlo]; exact va_S.rf
  have hgo : W p l e (zR 6 0 0) s m ([.ref (ad 0)] : List Value).toArray below meth c H locs 0 0 (MQ below (zQm G (True) (some (.int ((mf_still m_at m_beside Wd R).1))) (mW G ad ((mf_still m_at m_beside Wd R).2.1) m_top m_bottom m_taped m_size m_token m_from m_end m_value m_faultKind m_faultPlace m_faults m_seen m_depth m_counted m_lead m_round m_tried m_triedMany m_drawn m_ranSteps m_isTold m_marks m_at m_names m_sort m_trayMany m_trays m_tape m_text m_opened ((mf_still m_at m_beside Wd R).2.2) m_then m_ways m_further m_canBe m_loops m_ran m_told0) A) ([.ref (ad 0)] : List Value).toArray s 0 0 A) (F0 m 0 ls []) := ?_
  · rw [hH, hlo] at hgo; exact hgo
  clear hH hlo
  have hWR := mOK_WR hG
  have hW0 := mOK_W0 hG
  have hW5 := mOK_W5 hG
  have hR0 := mOK_R0 hG
  have hR6 := mOK_R6 hG
  have hn4 := mOK_n4 hG
  have hc6 := mOK_c6 hG
  refine lv_aload_n hx hb dX7_still_0 rfl (lv_at hl 0 rfl) ?_
  refine lv_aload_n hx hb dX7_still_1 rfl (lv_at hl 0 rfl) ?_
  refine zr_muV (F := mf_isStill m_at m_beside Wd R) (ff := fun t_1 => True) (rr := fun t_1 => some (.int (zb t_1.1))) (w1 := fun t_1 => (mW G ad m_status m_top m_bottom m_taped m_size m_token m_from m_end m_value m_faultKind m_faultPlace m_faults m_seen m_depth m_counted m_lead m_round m_tried m_triedMany m_drawn m_ranSteps m_isTold m_marks m_at m_names m_sort m_trayMany m_trays m_tape m_text m_opened t_1.2 m_then m_ways m_further m_canBe m_loops m_ran m_told0)) ⟨hx, hb, hml, hown, hts⟩ (mt_mf_isStill l G ad m_status m_top m_bottom m_taped m_size m_token m_from m_end m_value m_faultKind m_faultPlace m_faults m_seen m_depth m_counted m_lead m_round m_tried m_triedMany m_drawn m_ranSteps m_isTold m_marks m_at m_names m_sort m_trayMany m_trays m_tape m_text m_opened m_beside m_then m_ways m_further m_canBe m_loops m_ran m_told0 Wd R nr nc hG H.size) (cwV 0 hts (lw_V q1930 q1932 qs110 q144 q1933) rfl rfl rfl hd_X7_isStill ⟨(Nat.le_of_ble_eq_true rfl), (Nat.le_of_ble_eq_true rfl)⟩) hP hD hS hA hK hE 0 7 rfl rfl rfl hl.1 rfl (Nat.le_of_ble_eq_true rfl) dX7_still_2 ⟨Nat.le_refl _, Nat.le_refl _⟩ (fun t_1 ht_1 hft_1 H locs hP hD hS _ => ?_)
  refine W.eq (g2 := F0 m 5 ls [.int (zb t_1.1), .ref (ad 0)]) rfl ?_
  refine zr_eqB t_1.1 (tgt := 12) hx hb dX7_still_5 (by decide) (fun c_2 => ?_) (fun c_2 => ?_)
  · refine lv_iconst (v := 0) hx hb dX7_still_12 (by decide) ?_
    refine zr_muV (F := ()) (ff := fun _ => True) (rr := fun _ => some (.int 0)) (w1 := fun _ => (mW G ad 0 m_top m_bottom m_taped m_size m_token m_from m_end m_value m_faultKind m_faultPlace m_faults m_seen m_depth m_counted m_lead m_round m_tried m_triedMany m_drawn m_ranSteps m_isTold m_marks m_at m_names m_sort m_trayMany m_trays m_tape m_text m_opened t_1.2 m_then m_ways m_further m_canBe m_loops m_ran m_told0)) ⟨hx, hb, hml, hown, hts⟩ (mt_mf_gives l G ad m_status m_top m_bottom m_taped m_size m_token m_from m_end m_value m_faultKind m_faultPlace m_faults m_seen m_depth m_counted m_lead m_round m_tried m_triedMany m_drawn m_ranSteps m_isTold m_marks m_at m_names m_sort m_trayMany m_trays m_tape m_text m_opened t_1.2 m_then m_ways m_further m_canBe m_loops m_ran m_told0 0 H.size) (cwV 1 hts (lw_V q1751 q1753 qs85 q144 q1754) rfl rfl rfl hd_X7_gives ⟨(Nat.le_of_ble_eq_true rfl), (Nat.le_of_ble_eq_true rfl)⟩) hP hD hS hA hK hE 0 7 rfl rfl rfl hl.1 rfl (Nat.le_of_ble_eq_true rfl) dX7_still_13 ⟨Nat.le_refl _, Nat.le_refl _⟩ (fun _ _ _ H locs hP hD hS _ => ?_)
    refine W.eq (g2 := F0 m 16 ls [.int 0]) rfl ?_
    have e_ : mf_still m_at m_beside Wd R = (0, 0, t_1.2) := by rw [mf_still, zlet_eq ht_1, if_neg c_2]
    exact zr_mi hx hb hr hlocks hP hD hS dX7_still_16 (by rw [e_])  (by rw [e_]) trivial
  · refine lv_iconst (v := 1) hx hb dX7_still_8 (by decide) ?_
    refine lv_goto (tgt := 13) hx hb dX7_still_9 (by decide) ?_
    refine zr_muV (F := ()) (ff := fun _ => True) (rr := fun _ => some (.int 1)) (w1 := fun _ => (mW G ad 0 m_top m_bottom m_taped m_size m_token m_from m_end m_value m_faultKind m_faultPlace m_faults m_seen m_depth m_counted m_lead m_round m_tried m_triedMany m_drawn m_ranSteps m_isTold m_marks m_at m_names m_sort m_trayMany m_trays m_tape m_text m_opened t_1.2 m_then m_ways m_further m_canBe m_loops m_ran m_told0)) ⟨hx, hb, hml, hown, hts⟩ (mt_mf_gives l G ad m_status m_top m_bottom m_taped m_size m_token m_from m_end m_value m_faultKind m_faultPlace m_faults m_seen m_depth m_counted m_lead m_round m_tried m_triedMany m_drawn m_ranSteps m_isTold m_marks m_at m_names m_sort m_trayMany m_trays m_tape m_text m_opened t_1.2 m_then m_ways m_further m_canBe m_loops m_ran m_told0 1 H.size) (cwV 1 hts (lw_V q1751 q1753 qs85 q144 q1754) rfl rfl rfl hd_X7_gives ⟨(Nat.le_of_ble_eq_true rfl), (Nat.le_of_ble_eq_true rfl)⟩) hP hD hS hA hK hE 0 7 rfl rfl rfl hl.1 rfl (Nat.le_of_ble_eq_true rfl) dX7_still_13 ⟨Nat.le_refl _, Nat.le_refl _⟩ (fun _ _ _ H locs hP hD hS _ => ?_)
    refine W.eq (g2 := F0 m 16 ls [.int 1]) rfl ?_
    have e_ : mf_still m_at m_beside Wd R = (1, 0, t_1.2) := by rw [mf_still, zlet_eq ht_1, if_pos c_2]
    exact zr_mi hx hb hr hlocks hP hD hS dX7_still_16 (by rw [e_])  (by rw [e_]) trivial
def mf_next (m_at : Nat → Int32) (m_beside : Nat → Int32) (Wd : Nat) (R : Nat) (what : Int32) : Int32 × Int32 × (Nat → Int32) :=
  (if what < 0 then
    ((-1), 1, m_beside)
  else
    (if what ≤ 2 then
      zlet (mf_after m_at m_beside Wd R (m_at 3) 1) (fun t_4 =>
      (if what = 0 then
        (nI (zpc (t_4.1 &&& ((m_at 3) ^^^ (-1)))), 0, t_4.2)
      else
        (if what = 1 then
          (nI (zpc ((m_at 3) &&& (t_4.1 ^^^ (-1)))), 0, t_4.2)
        else
          (nI (zpc ((m_at 3) &&& t_4.1)), 0, t_4.2))))
    else
      ((-1), 1, m_beside)))
theorem hd_X7_next : yX7_next.cls = RX7 ∧ yX7_next.cls ≠ "java/lang/invoke/MethodHandle" ∧ yX7_next.cls ≠ "java/lang/invoke/VarHandle" ∧ (parseMethodDescriptor yX7_next.desc).map (fun d => d.parameters.length) = some 1 := by decide +kernel
set_option maxHeartbeats 4000000 in
set_option maxRecDepth 100000 in
theorem mt_mf_next (l : Launch) (G : zG) (ad : Nat → Nat) (m_status : Int32) (m_top : Int64) (m_bottom : Int64) (m_taped : Int32) (m_size : Int32) (m_token : Int32) (m_from : Int32) (m_end : Int32) (m_value : Int32) (m_faultKind : Int32) (m_faultPlace : Int32) (m_faults : Int32) (m_seen : Int32) (m_depth : Int32) (m_counted : Int32) (m_lead : Int32) (m_round : Int32) (m_tried : Int32) (m_triedMany : Int32) (m_drawn : Int32) (m_ranSteps : Int32) (m_isTold : Bool) (m_marks : Int32) (m_at : Nat → Int32) (m_names : Nat → Int64) (m_sort : Nat → Int32) (m_trayMany : Nat → Int32) (m_trays : Nat → Int64) (m_tape : Nat → Int32) (m_text : Nat → Int32) (m_opened : Nat → Int32) (m_beside : Nat → Int32) (m_then : Nat → Int32) (m_ways : Nat → Int64) (m_further : Nat → Int64) (m_canBe : Nat → Int32) (m_loops : Nat → Int32) (m_ran : Nat → Int32) (m_told0 : Nat → Int32) (Wd : Nat) (R : Nat) (nr : Nat) (nc : Nat) (what : Int32) (hG : mOK m_at Wd R nr nc) (sz : Nat) : Met l yX7_next (ws_ yX7_next cX7_next 3 (some .int)) (zR 5 0 0) (zPm G sz [.ref (ad 0), .int what] (mW G ad m_status m_top m_bottom m_taped m_size m_token m_from m_end m_value m_faultKind m_faultPlace m_faults m_seen m_depth m_counted m_lead m_round m_tried m_triedMany m_drawn m_ranSteps m_isTold m_marks m_at m_names m_sort m_trayMany m_trays m_tape m_text m_opened m_beside m_then m_ways m_further m_canBe m_loops m_ran m_told0)) (zQm G (True) (some (.int ((mf_next m_at m_beside Wd R what).1))) (mW G ad ((mf_next m_at m_beside Wd R what).2.1) m_top m_bottom m_taped m_size m_token m_from m_end m_value m_faultKind m_faultPlace m_faults m_seen m_depth m_counted m_lead m_round m_tried m_triedMany m_drawn m_ranSteps m_isTold m_marks m_at m_names m_sort m_trayMany m_trays m_tape m_text m_opened ((mf_next m_at m_beside Wd R what).2.2) m_then m_ways m_further m_canBe m_loops m_ran m_told0) (va_A (mW G ad m_status m_top m_bottom m_taped m_size m_token m_from m_end m_value m_faultKind m_faultPlace m_faults m_seen m_depth m_counted m_lead m_round m_tried m_triedMany m_drawn m_ranSteps m_isTold m_marks m_at m_names m_sort m_trayMany m_trays m_tape m_text m_opened m_beside m_then m_ways m_further m_canBe m_loops m_ran m_told0) sz)) 0 0 (va_A (mW G ad m_status m_top m_bottom m_taped m_size m_token m_from m_end m_value m_faultKind m_faultPlace m_faults m_seen m_depth m_counted m_lead m_round m_tried m_triedMany m_drawn m_ranSteps m_isTold m_marks m_at m_names m_sort m_trayMany m_trays m_tape m_text m_opened m_beside m_then m_ways m_further m_canBe m_loops m_ran m_told0) sz) := by
  refine zr_entM (by decide) (Nat.le_of_ble_eq_true rfl) ?_
  intro p e s m below meth c ⟨hx, hb, hr, hml, hown, hts, hlocks, hnm⟩ ls hl hP hK A hE hA hD hS
  have hown : s.vm.findClass RX7 = some m.cls := hown
  have hl : lv_has ls 3 [(0, .ref (ad 0)), (1, .int what)] := hl
  obtain ⟨H, hH⟩ : ∃ H, H = s.heap := ⟨_, rfl⟩
  obtain ⟨locs, hlo⟩ : ∃ L : List Loc, L = [] := ⟨_, rfl⟩
  rw [← hH] at hP
  have hS : va_S A s.heap H locs := by rw [hH, hlo]; exact va_S.rf
  have hgo : W p l e (zR 5 0 0) s m ([.ref (ad 0), .int what] : List Value).toArray below meth c H locs 0 0 (MQ below (zQm G (True) (some (.int ((mf_next m_at m_beside Wd R what).1))) (mW G ad ((mf_next m_at m_beside Wd R what).2.1) m_top m_bottom m_taped m_size m_token m_from m_end m_value m_faultKind m_faultPlace m_faults m_seen m_depth m_counted m_lead m_round m_tried m_triedMany m_drawn m_ranSteps m_isTold m_marks m_at m_names m_sort m_trayMany m_trays m_tape m_text m_opened ((mf_next m_at m_beside Wd R what).2.2) m_then m_ways m_further m_canBe m_loops m_ran m_told0) A) ([.ref (ad 0), .int what] : List Value).toArray s 0 0 A) (F0 m 0 ls []) := ?_
  · rw [hH, hlo] at hgo; exact hgo
  clear hH hlo
  have hWR := mOK_WR hG
  have hW0 := mOK_W0 hG
  have hW5 := mOK_W5 hG
  have hR0 := mOK_R0 hG
  have hR6 := mOK_R6 hG
  have hn4 := mOK_n4 hG
  have hc6 := mOK_c6 hG
  refine lv_iload_n hx hb dX7_next_0 rfl (lv_at hl 1 rfl) ?_
  refine lv_if_lt (tgt := 9) hx hb dX7_next_1 (by decide) (fun c_1 => ?_) (fun c_1 => ?_)
  · refine lv_aload_n hx hb dX7_next_9 rfl (lv_at hl 0 rfl) ?_
    refine lv_iconst (v := 1) hx hb dX7_next_10 (by decide) ?_
    refine zr_muV (F := ()) (ff := fun _ => True) (rr := fun _ => some (.int (-1))) (w1 := fun _ => (mW G ad 1 m_top m_bottom m_taped m_size m_token m_from m_end m_value m_faultKind m_faultPlace m_faults m_seen m_depth m_counted m_lead m_round m_tried m_triedMany m_drawn m_ranSteps m_isTold m_marks m_at m_names m_sort m_trayMany m_trays m_tape m_text m_opened m_beside m_then m_ways m_further m_canBe m_loops m_ran m_told0)) ⟨hx, hb, hml, hown, hts⟩ (mt_mf_refuse l G ad m_status m_top m_bottom m_taped m_size m_token m_from m_end m_value m_faultKind m_faultPlace m_faults m_seen m_depth m_counted m_lead m_round m_tried m_triedMany m_drawn m_ranSteps m_isTold m_marks m_at m_names m_sort m_trayMany m_trays m_tape m_text m_opened m_beside m_then m_ways m_further m_canBe m_loops m_ran m_told0 1 H.size) (cwV 1 hts (lw_V q1666 q1668 qs66 q144 q1669) rfl rfl rfl hd_X7_refuse ⟨(Nat.le_of_ble_eq_true rfl), (Nat.le_of_ble_eq_true rfl)⟩) hP hD hS hA hK hE 0 7 rfl rfl rfl hl.1 rfl (Nat.le_of_ble_eq_true rfl) dX7_next_11 ⟨Nat.le_refl _, Nat.le_refl _⟩ (fun _ _ _ H locs hP hD hS _ => ?_)
    refine W.eq (g2 := F0 m 14 ls [.int (-1)]) rfl ?_
    have e_ : mf_next m_at m_beside Wd R what = ((-1), 1, m_beside) := by rw [mf_next, if_pos c_1]
    exact zr_mi hx hb hr hlocks hP hD hS dX7_next_14 (by rw [e_])  (by rw [e_]) trivial
  · refine lv_iload_n hx hb dX7_next_4 rfl (lv_at hl 1 rfl) ?_
    refine lv_iconst (v := 2) hx hb dX7_next_5 (by decide) ?_
    refine lv_icmp_le (tgt := 15) hx hb dX7_next_6 (by decide) (fun c_3 => ?_) (fun c_3 => ?_)
    · refine lv_aload_n hx hb dX7_next_15 rfl (lv_at hl 0 rfl) ?_
      refine lv_aload_n hx hb dX7_next_16 rfl (lv_at hl 0 rfl) ?_
      refine va_get (D := G.1) (ci := 7) (v := .ref (ad 1)) (C := RX7) (T := TX7) (N := 39) hx hb hts in_X7 hown hK.1 hP 0 rfl rfl 0 (Nat.le_of_ble_eq_true rfl) (hts _ q1467) (fun _ h => h) rfl dX7_next_17 ?_
      refine lv_iconst (v := 3) hx hb dX7_next_20 (by decide) ?_
      refine zr_iald 3 (v := m_at 3) hx hb hK hP 1 rfl rfl (Nat.le_of_ble_eq_true rfl) rfl (by decide) rfl dX7_next_21 ?_
      refine lv_iconst (v := 1) hx hb dX7_next_22 (by decide) ?_
      refine zr_muV (F := mf_after m_at m_beside Wd R (m_at 3) 1) (ff := fun t_4 => True) (rr := fun t_4 => some (.int t_4.1)) (w1 := fun t_4 => (mW G ad m_status m_top m_bottom m_taped m_size m_token m_from m_end m_value m_faultKind m_faultPlace m_faults m_seen m_depth m_counted m_lead m_round m_tried m_triedMany m_drawn m_ranSteps m_isTold m_marks m_at m_names m_sort m_trayMany m_trays m_tape m_text m_opened t_4.2 m_then m_ways m_further m_canBe m_loops m_ran m_told0)) ⟨hx, hb, hml, hown, hts⟩ (mt_mf_after l G ad m_status m_top m_bottom m_taped m_size m_token m_from m_end m_value m_faultKind m_faultPlace m_faults m_seen m_depth m_counted m_lead m_round m_tried m_triedMany m_drawn m_ranSteps m_isTold m_marks m_at m_names m_sort m_trayMany m_trays m_tape m_text m_opened m_beside m_then m_ways m_further m_canBe m_loops m_ran m_told0 Wd R nr nc (m_at 3) 1 hG (by first | assumption | exact hnn | omega) H.size) (cwV 2 hts (lw_V q1901 q1903 qs107 q144 q1904) rfl rfl rfl hd_X7_after ⟨(Nat.le_of_ble_eq_true rfl), (Nat.le_of_ble_eq_true rfl)⟩) hP hD hS hA hK hE 0 7 rfl rfl rfl hl.1 rfl (Nat.le_of_ble_eq_true rfl) dX7_next_23 ⟨Nat.le_refl _, Nat.le_refl _⟩ (fun t_4 ht_4 hft_4 H locs hP hD hS _ => ?_)
      refine W.eq (g2 := F0 m 26 ls [.int t_4.1]) rfl ?_
      refine lv_istore_n (lv' := [(2, .int t_4.1), (0, .ref (ad 0)), (1, .int what)]) hx hb dX7_next_26 rfl hl (by decide) rfl (fun ls hl => ?_)
      refine lv_aload_n hx hb dX7_next_27 rfl (lv_at hl 1 rfl) ?_
      refine lv_iload_n hx hb dX7_next_28 rfl (lv_at hl 2 rfl) ?_
      refine lv_if_ne (tgt := 45) hx hb dX7_next_29 (by decide) (fun c_5 => ?_) (fun c_5 => ?_)
      · refine lv_iload_n hx hb dX7_next_45 rfl (lv_at hl 2 rfl) ?_
        refine lv_iconst (v := 1) hx hb dX7_next_46 (by decide) ?_
        refine lv_icmp_ne (tgt := 63) hx hb dX7_next_47 (by decide) (fun c_6 => ?_) (fun c_6 => ?_)
        · refine lv_aload_n hx hb dX7_next_63 rfl (lv_at hl 1 rfl) ?_
          refine va_get (D := G.1) (ci := 7) (v := .ref (ad 1)) (C := RX7) (T := TX7) (N := 39) hx hb hts in_X7 hown hK.1 hP 0 rfl rfl 0 (Nat.le_of_ble_eq_true rfl) (hts _ q1467) (fun _ h => h) rfl dX7_next_64 ?_
          refine lv_iconst (v := 3) hx hb dX7_next_67 (by decide) ?_
          refine zr_iald 3 (v := m_at 3) hx hb hK hP 1 rfl rfl (Nat.le_of_ble_eq_true rfl) rfl (by decide) rfl dX7_next_68 ?_
          refine lv_iload_n hx hb dX7_next_69 rfl (lv_at hl 0 rfl) ?_
          refine lv_iand hx hb dX7_next_70 ?_
          refine zr_puS ⟨hx, hb, hml, hown, hts⟩ (mt_bitsN l ((m_at 3) &&& t_4.1)) (va_cwS 1 hts (lw_S q1744 q1745 q144 q1746) rfl rfl rfl hd_X7_bits.2 ⟨(Nat.le_of_ble_eq_true rfl), (Nat.le_of_ble_eq_true rfl)⟩) rfl hl.1 rfl (Nat.le_of_ble_eq_true rfl) dX7_next_71 ⟨Nat.le_refl _, Nat.le_refl _⟩ ?_
          refine zr_muV (F := ()) (ff := fun _ => True) (rr := fun _ => some (.int (nI (zpc ((m_at 3) &&& t_4.1))))) (w1 := fun _ => (mW G ad 0 m_top m_bottom m_taped m_size m_token m_from m_end m_value m_faultKind m_faultPlace m_faults m_seen m_depth m_counted m_lead m_round m_tried m_triedMany m_drawn m_ranSteps m_isTold m_marks m_at m_names m_sort m_trayMany m_trays m_tape m_text m_opened t_4.2 m_then m_ways m_further m_canBe m_loops m_ran m_told0)) ⟨hx, hb, hml, hown, hts⟩ (mt_mf_gives l G ad m_status m_top m_bottom m_taped m_size m_token m_from m_end m_value m_faultKind m_faultPlace m_faults m_seen m_depth m_counted m_lead m_round m_tried m_triedMany m_drawn m_ranSteps m_isTold m_marks m_at m_names m_sort m_trayMany m_trays m_tape m_text m_opened t_4.2 m_then m_ways m_further m_canBe m_loops m_ran m_told0 (nI (zpc ((m_at 3) &&& t_4.1))) H.size) (cwV 1 hts (lw_V q1751 q1753 qs85 q144 q1754) rfl rfl rfl hd_X7_gives ⟨(Nat.le_of_ble_eq_true rfl), (Nat.le_of_ble_eq_true rfl)⟩) hP hD hS hA hK hE 0 7 rfl rfl rfl hl.1 rfl (Nat.le_of_ble_eq_true rfl) dX7_next_74 ⟨Nat.le_refl _, Nat.le_refl _⟩ (fun _ _ _ H locs hP hD hS _ => ?_)
          refine W.eq (g2 := F0 m 77 ls [.int (nI (zpc ((m_at 3) &&& t_4.1)))]) rfl ?_
          have e_ : mf_next m_at m_beside Wd R what = (nI (zpc ((m_at 3) &&& t_4.1)), 0, t_4.2) := by rw [mf_next, if_neg c_1, if_pos c_3, zlet_eq ht_4, if_neg c_5, if_neg c_6]
          exact zr_mi hx hb hr hlocks hP hD hS dX7_next_77 (by rw [e_])  (by rw [e_]) trivial
        · refine lv_aload_n hx hb dX7_next_50 rfl (lv_at hl 1 rfl) ?_
          refine va_get (D := G.1) (ci := 7) (v := .ref (ad 1)) (C := RX7) (T := TX7) (N := 39) hx hb hts in_X7 hown hK.1 hP 0 rfl rfl 0 (Nat.le_of_ble_eq_true rfl) (hts _ q1467) (fun _ h => h) rfl dX7_next_51 ?_
          refine lv_iconst (v := 3) hx hb dX7_next_54 (by decide) ?_
          refine zr_iald 3 (v := m_at 3) hx hb hK hP 1 rfl rfl (Nat.le_of_ble_eq_true rfl) rfl (by decide) rfl dX7_next_55 ?_
          refine lv_iload_n hx hb dX7_next_56 rfl (lv_at hl 0 rfl) ?_
          refine lv_iconst (v := (-1)) hx hb dX7_next_57 (by decide) ?_
          refine lv_ixor hx hb dX7_next_58 ?_
          refine lv_iand hx hb dX7_next_59 ?_
          refine lv_goto (tgt := 71) hx hb dX7_next_60 (by decide) ?_
          refine zr_puS ⟨hx, hb, hml, hown, hts⟩ (mt_bitsN l ((m_at 3) &&& (t_4.1 ^^^ (-1)))) (va_cwS 1 hts (lw_S q1744 q1745 q144 q1746) rfl rfl rfl hd_X7_bits.2 ⟨(Nat.le_of_ble_eq_true rfl), (Nat.le_of_ble_eq_true rfl)⟩) rfl hl.1 rfl (Nat.le_of_ble_eq_true rfl) dX7_next_71 ⟨Nat.le_refl _, Nat.le_refl _⟩ ?_
          refine zr_muV (F := ()) (ff := fun _ => True) (rr := fun _ => some (.int (nI (zpc ((m_at 3) &&& (t_4.1 ^^^ (-1))))))) (w1 := fun _ => (mW G ad 0 m_top m_bottom m_taped m_size m_token m_from m_end m_value m_faultKind m_faultPlace m_faults m_seen m_depth m_counted m_lead m_round m_tried m_triedMany m_drawn m_ranSteps m_isTold m_marks m_at m_names m_sort m_trayMany m_trays m_tape m_text m_opened t_4.2 m_then m_ways m_further m_canBe m_loops m_ran m_told0)) ⟨hx, hb, hml, hown, hts⟩ (mt_mf_gives l G ad m_status m_top m_bottom m_taped m_size m_token m_from m_end m_value m_faultKind m_faultPlace m_faults m_seen m_depth m_counted m_lead m_round m_tried m_triedMany m_drawn m_ranSteps m_isTold m_marks m_at m_names m_sort m_trayMany m_trays m_tape m_text m_opened t_4.2 m_then m_ways m_further m_canBe m_loops m_ran m_told0 (nI (zpc ((m_at 3) &&& (t_4.1 ^^^ (-1))))) H.size) (cwV 1 hts (lw_V q1751 q1753 qs85 q144 q1754) rfl rfl rfl hd_X7_gives ⟨(Nat.le_of_ble_eq_true rfl), (Nat.le_of_ble_eq_true rfl)⟩) hP hD hS hA hK hE 0 7 rfl rfl rfl hl.1 rfl (Nat.le_of_ble_eq_true rfl) dX7_next_74 ⟨Nat.le_refl _, Nat.le_refl _⟩ (fun _ _ _ H locs hP hD hS _ => ?_)
          refine W.eq (g2 := F0 m 77 ls [.int (nI (zpc ((m_at 3) &&& (t_4.1 ^^^ (-1)))))]) rfl ?_
          have e_ : mf_next m_at m_beside Wd R what = (nI (zpc ((m_at 3) &&& (t_4.1 ^^^ (-1)))), 0, t_4.2) := by rw [mf_next, if_neg c_1, if_pos c_3, zlet_eq ht_4, if_neg c_5, if_pos c_6]
          exact zr_mi hx hb hr hlocks hP hD hS dX7_next_77 (by rw [e_])  (by rw [e_]) trivial
      · refine lv_iload_n hx hb dX7_next_32 rfl (lv_at hl 0 rfl) ?_
        refine lv_aload_n hx hb dX7_next_33 rfl (lv_at hl 1 rfl) ?_
        refine va_get (D := G.1) (ci := 7) (v := .ref (ad 1)) (C := RX7) (T := TX7) (N := 39) hx hb hts in_X7 hown hK.1 hP 0 rfl rfl 0 (Nat.le_of_ble_eq_true rfl) (hts _ q1467) (fun _ h => h) rfl dX7_next_34 ?_
        refine lv_iconst (v := 3) hx hb dX7_next_37 (by decide) ?_
        refine zr_iald 3 (v := m_at 3) hx hb hK hP 1 rfl rfl (Nat.le_of_ble_eq_true rfl) rfl (by decide) rfl dX7_next_38 ?_
        refine lv_iconst (v := (-1)) hx hb dX7_next_39 (by decide) ?_
        refine lv_ixor hx hb dX7_next_40 ?_
        refine lv_iand hx hb dX7_next_41 ?_
        refine lv_goto (tgt := 71) hx hb dX7_next_42 (by decide) ?_
        refine zr_puS ⟨hx, hb, hml, hown, hts⟩ (mt_bitsN l (t_4.1 &&& ((m_at 3) ^^^ (-1)))) (va_cwS 1 hts (lw_S q1744 q1745 q144 q1746) rfl rfl rfl hd_X7_bits.2 ⟨(Nat.le_of_ble_eq_true rfl), (Nat.le_of_ble_eq_true rfl)⟩) rfl hl.1 rfl (Nat.le_of_ble_eq_true rfl) dX7_next_71 ⟨Nat.le_refl _, Nat.le_refl _⟩ ?_
        refine zr_muV (F := ()) (ff := fun _ => True) (rr := fun _ => some (.int (nI (zpc (t_4.1 &&& ((m_at 3) ^^^ (-1))))))) (w1 := fun _ => (mW G ad 0 m_top m_bottom m_taped m_size m_token m_from m_end m_value m_faultKind m_faultPlace m_faults m_seen m_depth m_counted m_lead m_round m_tried m_triedMany m_drawn m_ranSteps m_isTold m_marks m_at m_names m_sort m_trayMany m_trays m_tape m_text m_opened t_4.2 m_then m_ways m_further m_canBe m_loops m_ran m_told0)) ⟨hx, hb, hml, hown, hts⟩ (mt_mf_gives l G ad m_status m_top m_bottom m_taped m_size m_token m_from m_end m_value m_faultKind m_faultPlace m_faults m_seen m_depth m_counted m_lead m_round m_tried m_triedMany m_drawn m_ranSteps m_isTold m_marks m_at m_names m_sort m_trayMany m_trays m_tape m_text m_opened t_4.2 m_then m_ways m_further m_canBe m_loops m_ran m_told0 (nI (zpc (t_4.1 &&& ((m_at 3) ^^^ (-1))))) H.size) (cwV 1 hts (lw_V q1751 q1753 qs85 q144 q1754) rfl rfl rfl hd_X7_gives ⟨(Nat.le_of_ble_eq_true rfl), (Nat.le_of_ble_eq_true rfl)⟩) hP hD hS hA hK hE 0 7 rfl rfl rfl hl.1 rfl (Nat.le_of_ble_eq_true rfl) dX7_next_74 ⟨Nat.le_refl _, Nat.le_refl _⟩ (fun _ _ _ H locs hP hD hS _ => ?_)
        refine W.eq (g2 := F0 m 77 ls [.int (nI (zpc (t_4.1 &&& ((m_at 3) ^^^ (-1)))))]) rfl ?_
        have e_ : mf_next m_at m_beside Wd R what = (nI (zpc (t_4.1 &&& ((m_at 3) ^^^ (-1)))), 0, t_4.2) := by rw [mf_next, if_neg c_1, if_pos c_3, zlet_eq ht_4, if_pos c_5]
        exact zr_mi hx hb hr hlocks hP hD hS dX7_next_77 (by rw [e_])  (by rw [e_]) trivial
    · refine lv_aload_n hx hb dX7_next_9 rfl (lv_at hl 0 rfl) ?_
      refine lv_iconst (v := 1) hx hb dX7_next_10 (by decide) ?_
      refine zr_muV (F := ()) (ff := fun _ => True) (rr := fun _ => some (.int (-1))) (w1 := fun _ => (mW G ad 1 m_top m_bottom m_taped m_size m_token m_from m_end m_value m_faultKind m_faultPlace m_faults m_seen m_depth m_counted m_lead m_round m_tried m_triedMany m_drawn m_ranSteps m_isTold m_marks m_at m_names m_sort m_trayMany m_trays m_tape m_text m_opened m_beside m_then m_ways m_further m_canBe m_loops m_ran m_told0)) ⟨hx, hb, hml, hown, hts⟩ (mt_mf_refuse l G ad m_status m_top m_bottom m_taped m_size m_token m_from m_end m_value m_faultKind m_faultPlace m_faults m_seen m_depth m_counted m_lead m_round m_tried m_triedMany m_drawn m_ranSteps m_isTold m_marks m_at m_names m_sort m_trayMany m_trays m_tape m_text m_opened m_beside m_then m_ways m_further m_canBe m_loops m_ran m_told0 1 H.size) (cwV 1 hts (lw_V q1666 q1668 qs66 q144 q1669) rfl rfl rfl hd_X7_refuse ⟨(Nat.le_of_ble_eq_true rfl), (Nat.le_of_ble_eq_true rfl)⟩) hP hD hS hA hK hE 0 7 rfl rfl rfl hl.1 rfl (Nat.le_of_ble_eq_true rfl) dX7_next_11 ⟨Nat.le_refl _, Nat.le_refl _⟩ (fun _ _ _ H locs hP hD hS _ => ?_)
      refine W.eq (g2 := F0 m 14 ls [.int (-1)]) rfl ?_
      have e_ : mf_next m_at m_beside Wd R what = ((-1), 1, m_beside) := by rw [mf_next, if_neg c_1, if_neg c_3]
      exact zr_mi hx hb hr hlocks hP hD hS dX7_next_14 (by rw [e_])  (by rw [e_]) trivial
def mf_oil_B34 (m_at : Nat → Int32) (Wd : Nat) (R : Nat) (t_2 : (Nat → Int32)) (s_3 : Nat × Int32 × Int32) : (Nat × Int32 × Int32) ⊕ (Nat × Int32 × Int32) :=
  (if 999 ≤ s_3.1 then
    .inr (s_3.1, s_3.2.1, s_3.2.2)
  else
    (if s_3.2.1 < (nI (zpc s_3.2.2)) then
      .inr (s_3.1, s_3.2.1, s_3.2.2)
    else
      .inl (s_3.1 + 1, s_3.2.1 - (nI (zpc s_3.2.2)), mf_becomes m_at t_2 Wd R s_3.2.2 (m_at 10))))
def mf_oil_L34 (m_at : Nat → Int32) (Wd : Nat) (R : Nat) (t_2 : (Nat → Int32)) (s_3 : Nat × Int32 × Int32) : Nat × Int32 × Int32 := zw (mf_oil_B34 m_at Wd R t_2) (s_3) ((999 - s_3.1) + 1) s_3
def mf_oil (m_at : Nat → Int32) (m_beside : Nat → Int32) (Wd : Nat) (R : Nat) (much : Int32) : Int32 × Int32 × (Nat → Int32) :=
  (if (mf_isFrom much.toInt64 0 9999) = true then
    zlet (mf_laysNear m_at m_beside Wd R) (fun t_2 =>
    zlet (mf_oil_L34 m_at Wd R t_2 (0, much, m_at 3)) (fun t_3 =>
    (nI t_3.1, 0, t_2)))
  else
    ((-1), 1, m_beside))
theorem hd_X7_oil : yX7_oil.cls = RX7 ∧ yX7_oil.cls ≠ "java/lang/invoke/MethodHandle" ∧ yX7_oil.cls ≠ "java/lang/invoke/VarHandle" ∧ (parseMethodDescriptor yX7_oil.desc).map (fun d => d.parameters.length) = some 1 := by decide +kernel
set_option maxHeartbeats 4000000 in
set_option maxRecDepth 100000 in
theorem mt_mf_oil (l : Launch) (G : zG) (ad : Nat → Nat) (m_status : Int32) (m_top : Int64) (m_bottom : Int64) (m_taped : Int32) (m_size : Int32) (m_token : Int32) (m_from : Int32) (m_end : Int32) (m_value : Int32) (m_faultKind : Int32) (m_faultPlace : Int32) (m_faults : Int32) (m_seen : Int32) (m_depth : Int32) (m_counted : Int32) (m_lead : Int32) (m_round : Int32) (m_tried : Int32) (m_triedMany : Int32) (m_drawn : Int32) (m_ranSteps : Int32) (m_isTold : Bool) (m_marks : Int32) (m_at : Nat → Int32) (m_names : Nat → Int64) (m_sort : Nat → Int32) (m_trayMany : Nat → Int32) (m_trays : Nat → Int64) (m_tape : Nat → Int32) (m_text : Nat → Int32) (m_opened : Nat → Int32) (m_beside : Nat → Int32) (m_then : Nat → Int32) (m_ways : Nat → Int64) (m_further : Nat → Int64) (m_canBe : Nat → Int32) (m_loops : Nat → Int32) (m_ran : Nat → Int32) (m_told0 : Nat → Int32) (Wd : Nat) (R : Nat) (nr : Nat) (nc : Nat) (much : Int32) (hG : mOK m_at Wd R nr nc) (sz : Nat) : Met l yX7_oil (ws_ yX7_oil cX7_oil 5 (some .int)) (zR 4 0 0) (zPm G sz [.ref (ad 0), .int much] (mW G ad m_status m_top m_bottom m_taped m_size m_token m_from m_end m_value m_faultKind m_faultPlace m_faults m_seen m_depth m_counted m_lead m_round m_tried m_triedMany m_drawn m_ranSteps m_isTold m_marks m_at m_names m_sort m_trayMany m_trays m_tape m_text m_opened m_beside m_then m_ways m_further m_canBe m_loops m_ran m_told0)) (zQm G (True) (some (.int ((mf_oil m_at m_beside Wd R much).1))) (mW G ad ((mf_oil m_at m_beside Wd R much).2.1) m_top m_bottom m_taped m_size m_token m_from m_end m_value m_faultKind m_faultPlace m_faults m_seen m_depth m_counted m_lead m_round m_tried m_triedMany m_drawn m_ranSteps m_isTold m_marks m_at m_names m_sort m_trayMany m_trays m_tape m_text m_opened ((mf_oil m_at m_beside Wd R much).2.2) m_then m_ways m_further m_canBe m_loops m_ran m_told0) (va_A (mW G ad m_status m_top m_bottom m_taped m_size m_token m_from m_end m_value m_faultKind m_faultPlace m_faults m_seen m_depth m_counted m_lead m_round m_tried m_triedMany m_drawn m_ranSteps m_isTold m_marks m_at m_names m_sort m_trayMany m_trays m_tape m_text m_opened m_beside m_then m_ways m_further m_canBe m_loops m_ran m_told0) sz)) 0 0 (va_A (mW G ad m_status m_top m_bottom m_taped m_size m_token m_from m_end m_value m_faultKind m_faultPlace m_faults m_seen m_depth m_counted m_lead m_round m_tried m_triedMany m_drawn m_ranSteps m_isTold m_marks m_at m_names m_sort m_trayMany m_trays m_tape m_text m_opened m_beside m_then m_ways m_further m_canBe m_loops m_ran m_told0) sz) := by
  refine zr_entM (by decide) (Nat.le_of_ble_eq_true rfl) ?_
  intro p e s m below meth c ⟨hx, hb, hr, hml, hown, hts, hlocks, hnm⟩ ls hl hP hK A hE hA hD hS
  have hown : s.vm.findClass RX7 = some m.cls := hown
  have hl : lv_has ls 5 [(0, .ref (ad 0)), (1, .int much)] := hl
  obtain ⟨H, hH⟩ : ∃ H, H = s.heap := ⟨_, rfl⟩
  obtain ⟨locs, hlo⟩ : ∃ L : List Loc, L = [] := ⟨_, rfl⟩
  rw [← hH] at hP
  have hS : va_S A s.heap H locs := by rw [hH, hlo]; exact va_S.rf
  have hgo : W p l e (zR 4 0 0) s m ([.ref (ad 0), .int much] : List Value).toArray below meth c H locs 0 0 (MQ below (zQm G (True) (some (.int ((mf_oil m_at m_beside Wd R much).1))) (mW G ad ((mf_oil m_at m_beside Wd R much).2.1) m_top m_bottom m_taped m_size m_token m_from m_end m_value m_faultKind m_faultPlace m_faults m_seen m_depth m_counted m_lead m_round m_tried m_triedMany m_drawn m_ranSteps m_isTold m_marks m_at m_names m_sort m_trayMany m_trays m_tape m_text m_opened ((mf_oil m_at m_beside Wd R much).2.2) m_then m_ways m_further m_canBe m_loops m_ran m_told0) A) ([.ref (ad 0), .int much] : List Value).toArray s 0 0 A) (F0 m 0 ls []) := ?_
  · rw [hH, hlo] at hgo; exact hgo
  clear hH hlo
  have hWR := mOK_WR hG
  have hW0 := mOK_W0 hG
  have hW5 := mOK_W5 hG
  have hR0 := mOK_R0 hG
  have hR6 := mOK_R6 hG
  have hn4 := mOK_n4 hG
  have hc6 := mOK_c6 hG
  refine lv_iload_n hx hb dX7_oil_0 rfl (lv_at hl 1 rfl) ?_
  refine lv_i2l hx hb dX7_oil_1 rfl ?_
  refine lv_lconst (v := 0) hx hb dX7_oil_2 rfl ?_
  refine lv_ldc2 (v := 9999) hx hb hown (hts _ q1942) dX7_oil_3 ?_
  refine zr_puS ⟨hx, hb, hml, hown, hts⟩ (mt_mf_isFrom l much.toInt64 0 9999) (va_cwS 3 hts (lw_S q1848 q1849 q144 q1850) rfl rfl rfl hd_X7_isFrom.2 ⟨(Nat.le_of_ble_eq_true rfl), (Nat.le_of_ble_eq_true rfl)⟩) rfl hl.1 rfl (Nat.le_of_ble_eq_true rfl) dX7_oil_6 ⟨Nat.le_refl _, Nat.le_refl _⟩ ?_
  refine zr_neB (mf_isFrom much.toInt64 0 9999) (tgt := 18) hx hb dX7_oil_9 (by decide) (fun c_1 => ?_) (fun c_1 => ?_)
  · refine lv_aload_n hx hb dX7_oil_18 rfl (lv_at hl 0 rfl) ?_
    refine zr_muV (F := mf_laysNear m_at m_beside Wd R) (ff := fun t_2 => True) (rr := fun t_2 => none) (w1 := fun t_2 => (mW G ad m_status m_top m_bottom m_taped m_size m_token m_from m_end m_value m_faultKind m_faultPlace m_faults m_seen m_depth m_counted m_lead m_round m_tried m_triedMany m_drawn m_ranSteps m_isTold m_marks m_at m_names m_sort m_trayMany m_trays m_tape m_text m_opened t_2 m_then m_ways m_further m_canBe m_loops m_ran m_told0)) ⟨hx, hb, hml, hown, hts⟩ (mt_mf_laysNear l G ad m_status m_top m_bottom m_taped m_size m_token m_from m_end m_value m_faultKind m_faultPlace m_faults m_seen m_depth m_counted m_lead m_round m_tried m_triedMany m_drawn m_ranSteps m_isTold m_marks m_at m_names m_sort m_trayMany m_trays m_tape m_text m_opened m_beside m_then m_ways m_further m_canBe m_loops m_ran m_told0 Wd R nr nc hG H.size) (cwV 0 hts (lw_V q1889 q1891 qs105 q144 q1892) rfl rfl rfl hd_X7_laysNear ⟨(Nat.le_of_ble_eq_true rfl), (Nat.le_of_ble_eq_true rfl)⟩) hP hD hS hA hK hE 0 7 rfl rfl rfl hl.1 rfl (Nat.le_of_ble_eq_true rfl) dX7_oil_19 ⟨Nat.le_refl _, Nat.le_refl _⟩ (fun t_2 ht_2 hft_2 H locs hP hD hS _ => ?_)
    refine W.eq (g2 := F0 m 22 ls []) rfl ?_
    refine lv_aload_n hx hb dX7_oil_22 rfl (lv_at hl 0 rfl) ?_
    refine va_get (D := G.1) (ci := 7) (v := .ref (ad 1)) (C := RX7) (T := TX7) (N := 39) hx hb hts in_X7 hown hK.1 hP 0 rfl rfl 0 (Nat.le_of_ble_eq_true rfl) (hts _ q1467) (fun _ h => h) rfl dX7_oil_23 ?_
    refine lv_iconst (v := 3) hx hb dX7_oil_26 (by decide) ?_
    refine zr_iald 3 (v := m_at 3) hx hb hK hP 1 rfl rfl (Nat.le_of_ble_eq_true rfl) rfl (by decide) rfl dX7_oil_27 ?_
    refine lv_istore_n (lv' := [(2, .int (m_at 3)), (0, .ref (ad 0)), (1, .int much)]) hx hb dX7_oil_28 rfl hl (by decide) rfl (fun ls hl => ?_)
    refine lv_iload_n hx hb dX7_oil_29 rfl (lv_at hl 2 rfl) ?_
    refine lv_istore_n (lv' := [(3, .int much), (2, .int (m_at 3)), (0, .ref (ad 0)), (1, .int much)]) hx hb dX7_oil_30 rfl hl (by decide) rfl (fun ls hl => ?_)
    refine lv_iconst (v := 0) hx hb dX7_oil_31 (by decide) ?_
    refine lv_istore (lv' := [(4, .int 0), (3, .int much), (2, .int (m_at 3)), (0, .ref (ad 0)), (1, .int much)]) hx hb dX7_oil_32 hl (by decide) rfl (fun ls hl => ?_)
    have hx_3 : ∀ t_3 : Nat × Int32 × Int32, mf_oil_L34 m_at Wd R t_2 (0, much, m_at 3) = t_3 → ∀ (H : Heap) (locs : List Loc), va_P G.1 zcl (mW G ad m_status m_top m_bottom m_taped m_size m_token m_from m_end m_value m_faultKind m_faultPlace m_faults m_seen m_depth m_counted m_lead m_round m_tried m_triedMany m_drawn m_ranSteps m_isTold m_marks m_at m_names m_sort m_trayMany m_trays m_tape m_text m_opened t_2 m_then m_ways m_further m_canBe m_loops m_ran m_told0) H → va_D A (mW G ad m_status m_top m_bottom m_taped m_size m_token m_from m_end m_value m_faultKind m_faultPlace m_faults m_seen m_depth m_counted m_lead m_round m_tried m_triedMany m_drawn m_ranSteps m_isTold m_marks m_at m_names m_sort m_trayMany m_trays m_tape m_text m_opened t_2 m_then m_ways m_further m_canBe m_loops m_ran m_told0) → va_S A s.heap H locs → ∀ ls : Array Slot, lv_has ls 5 [(4, .int (nI t_3.1)), (0, .ref (ad 0))] → W p l e (zR 4 0 0) s m ([.ref (ad 0), .int much] : List Value).toArray below meth c H locs 0 0 (MQ below (zQm G (True) (some (.int ((mf_oil m_at m_beside Wd R much).1))) (mW G ad ((mf_oil m_at m_beside Wd R much).2.1) m_top m_bottom m_taped m_size m_token m_from m_end m_value m_faultKind m_faultPlace m_faults m_seen m_depth m_counted m_lead m_round m_tried m_triedMany m_drawn m_ranSteps m_isTold m_marks m_at m_names m_sort m_trayMany m_trays m_tape m_text m_opened ((mf_oil m_at m_beside Wd R much).2.2) m_then m_ways m_further m_canBe m_loops m_ran m_told0) A) ([.ref (ad 0), .int much] : List Value).toArray s 0 0 A) (F0 m 76 ls []) := by
      intro t_3 ht_3 H locs hP hD hS ls hl
      refine lv_aload_n hx hb dX7_oil_76 rfl (lv_at hl 1 rfl) ?_
      refine lv_iload hx hb dX7_oil_77 (lv_at hl 0 rfl) ?_
      refine zr_muV (F := ()) (ff := fun _ => True) (rr := fun _ => some (.int (nI t_3.1))) (w1 := fun _ => (mW G ad 0 m_top m_bottom m_taped m_size m_token m_from m_end m_value m_faultKind m_faultPlace m_faults m_seen m_depth m_counted m_lead m_round m_tried m_triedMany m_drawn m_ranSteps m_isTold m_marks m_at m_names m_sort m_trayMany m_trays m_tape m_text m_opened t_2 m_then m_ways m_further m_canBe m_loops m_ran m_told0)) ⟨hx, hb, hml, hown, hts⟩ (mt_mf_gives l G ad m_status m_top m_bottom m_taped m_size m_token m_from m_end m_value m_faultKind m_faultPlace m_faults m_seen m_depth m_counted m_lead m_round m_tried m_triedMany m_drawn m_ranSteps m_isTold m_marks m_at m_names m_sort m_trayMany m_trays m_tape m_text m_opened t_2 m_then m_ways m_further m_canBe m_loops m_ran m_told0 (nI t_3.1) H.size) (cwV 1 hts (lw_V q1751 q1753 qs85 q144 q1754) rfl rfl rfl hd_X7_gives ⟨(Nat.le_of_ble_eq_true rfl), (Nat.le_of_ble_eq_true rfl)⟩) hP hD hS hA hK hE 0 7 rfl rfl rfl hl.1 rfl (Nat.le_of_ble_eq_true rfl) dX7_oil_79 ⟨Nat.le_refl _, Nat.le_refl _⟩ (fun _ _ _ H locs hP hD hS _ => ?_)
      refine W.eq (g2 := F0 m 82 ls [.int (nI t_3.1)]) rfl ?_
      have e_ : mf_oil m_at m_beside Wd R much = (nI t_3.1, 0, t_2) := by rw [mf_oil, if_pos c_1, zlet_eq ht_2, zlet_eq ht_3]
      exact zr_mi hx hb hr hlocks hP hD hS dX7_oil_82 (by rw [e_])  (by rw [e_]) trivial
    have hlp_3 : ∀ (n : Nat) (s_3 : Nat × Int32 × Int32), 999 - s_3.1 < n → zw (mf_oil_B34 m_at Wd R t_2) (0, much, m_at 3) n s_3 = mf_oil_L34 m_at Wd R t_2 (0, much, m_at 3) → s_3.1 ≤ 999 → ∀ (H : Heap) (locs : List Loc), va_P G.1 zcl (mW G ad m_status m_top m_bottom m_taped m_size m_token m_from m_end m_value m_faultKind m_faultPlace m_faults m_seen m_depth m_counted m_lead m_round m_tried m_triedMany m_drawn m_ranSteps m_isTold m_marks m_at m_names m_sort m_trayMany m_trays m_tape m_text m_opened t_2 m_then m_ways m_further m_canBe m_loops m_ran m_told0) H → va_D A (mW G ad m_status m_top m_bottom m_taped m_size m_token m_from m_end m_value m_faultKind m_faultPlace m_faults m_seen m_depth m_counted m_lead m_round m_tried m_triedMany m_drawn m_ranSteps m_isTold m_marks m_at m_names m_sort m_trayMany m_trays m_tape m_text m_opened t_2 m_then m_ways m_further m_canBe m_loops m_ran m_told0) → va_S A s.heap H locs → ∀ ls : Array Slot, lv_has ls 5 [(4, .int (nI s_3.1)), (3, .int s_3.2.1), (2, .int s_3.2.2), (0, .ref (ad 0))] → W p l e (zR 4 0 0) s m ([.ref (ad 0), .int much] : List Value).toArray below meth c H locs 0 0 (MQ below (zQm G (True) (some (.int ((mf_oil m_at m_beside Wd R much).1))) (mW G ad ((mf_oil m_at m_beside Wd R much).2.1) m_top m_bottom m_taped m_size m_token m_from m_end m_value m_faultKind m_faultPlace m_faults m_seen m_depth m_counted m_lead m_round m_tried m_triedMany m_drawn m_ranSteps m_isTold m_marks m_at m_names m_sort m_trayMany m_trays m_tape m_text m_opened ((mf_oil m_at m_beside Wd R much).2.2) m_then m_ways m_further m_canBe m_loops m_ran m_told0) A) ([.ref (ad 0), .int much] : List Value).toArray s 0 0 A) (F0 m 34 ls []) := by
      intro n
      induction n with
      | zero => exact fun _ h => absurd h (Nat.not_lt_zero _)
      | succ n ih_3 =>
        intro s_3 hmu_3 hR_3 hi4 H locs hP hD hS ls hl
        refine lv_iload hx hb dX7_oil_34 (lv_at hl 0 rfl) ?_
        refine lv_sipush (v := 999) hx hb dX7_oil_36 (by decide) ?_
        refine zr_ge s_3.1 999 (by omega) (by decide) (tgt := 76) hx hb dX7_oil_39 (by decide) (fun c_4 => ?_) (fun c_4 => ?_)
        · exact hx_3 (s_3.1, s_3.2.1, s_3.2.2) (hR_3.symm.trans (zw_r (by rw [mf_oil_B34, if_pos c_4]))) H locs hP hD hS ls (lv_sub hl [0, 3] rfl)
        · refine lv_iload_n hx hb dX7_oil_42 rfl (lv_at hl 2 rfl) ?_
          refine zr_puS ⟨hx, hb, hml, hown, hts⟩ (mt_bitsN l s_3.2.2) (va_cwS 1 hts (lw_S q1744 q1745 q144 q1746) rfl rfl rfl hd_X7_bits.2 ⟨(Nat.le_of_ble_eq_true rfl), (Nat.le_of_ble_eq_true rfl)⟩) rfl hl.1 rfl (Nat.le_of_ble_eq_true rfl) dX7_oil_43 ⟨Nat.le_refl _, Nat.le_refl _⟩ ?_
          refine lv_iload_n hx hb dX7_oil_46 rfl (lv_at hl 1 rfl) ?_
          refine lv_icmp_gt (tgt := 76) hx hb dX7_oil_47 (by decide) (fun c_5 => ?_) (fun c_5 => ?_)
          · exact hx_3 (s_3.1, s_3.2.1, s_3.2.2) (hR_3.symm.trans (zw_r (by rw [mf_oil_B34, if_neg c_4, if_pos c_5]))) H locs hP hD hS ls (lv_sub hl [0, 3] rfl)
          · refine lv_iload_n hx hb dX7_oil_50 rfl (lv_at hl 1 rfl) ?_
            refine lv_iload_n hx hb dX7_oil_51 rfl (lv_at hl 2 rfl) ?_
            refine zr_puS ⟨hx, hb, hml, hown, hts⟩ (mt_bitsN l s_3.2.2) (va_cwS 1 hts (lw_S q1744 q1745 q144 q1746) rfl rfl rfl hd_X7_bits.2 ⟨(Nat.le_of_ble_eq_true rfl), (Nat.le_of_ble_eq_true rfl)⟩) rfl hl.1 rfl (Nat.le_of_ble_eq_true rfl) dX7_oil_52 ⟨Nat.le_refl _, Nat.le_refl _⟩ ?_
            refine lv_isub hx hb dX7_oil_55 ?_
            refine lv_istore_n (lv' := [(3, .int (s_3.2.1 - (nI (zpc s_3.2.2)))), (4, .int (nI s_3.1)), (2, .int s_3.2.2), (0, .ref (ad 0))]) hx hb dX7_oil_56 rfl hl (by decide) rfl (fun ls hl => ?_)
            refine lv_aload_n hx hb dX7_oil_57 rfl (lv_at hl 3 rfl) ?_
            refine lv_iload_n hx hb dX7_oil_58 rfl (lv_at hl 2 rfl) ?_
            refine lv_aload_n hx hb dX7_oil_59 rfl (lv_at hl 3 rfl) ?_
            refine va_get (D := G.1) (ci := 7) (v := .ref (ad 1)) (C := RX7) (T := TX7) (N := 39) hx hb hts in_X7 hown hK.1 hP 0 rfl rfl 0 (Nat.le_of_ble_eq_true rfl) (hts _ q1467) (fun _ h => h) rfl dX7_oil_60 ?_
            refine lv_bipush (v := 10) hx hb dX7_oil_63 (by decide) ?_
            refine zr_iald 10 (v := m_at 10) hx hb hK hP 1 rfl rfl (Nat.le_of_ble_eq_true rfl) rfl (by decide) rfl dX7_oil_65 ?_
            refine zr_obV ⟨hx, hb, hml, hown, hts⟩ (mt_mf_becomes l G ad m_status m_top m_bottom m_taped m_size m_token m_from m_end m_value m_faultKind m_faultPlace m_faults m_seen m_depth m_counted m_lead m_round m_tried m_triedMany m_drawn m_ranSteps m_isTold m_marks m_at m_names m_sort m_trayMany m_trays m_tape m_text m_opened t_2 m_then m_ways m_further m_canBe m_loops m_ran m_told0 Wd R nr nc s_3.2.2 (m_at 10) hG (mOK_by hG)) (cwV 2 hts (lw_V q1893 q1895 qs106 q144 q1896) rfl rfl rfl hd_X7_becomes ⟨(Nat.le_of_ble_eq_true rfl), (Nat.le_of_ble_eq_true rfl)⟩) hP hK (zE_o hE hS) 0 7 rfl rfl rfl hl.1 rfl (Nat.le_of_ble_eq_true rfl) dX7_oil_66 ⟨Nat.le_refl _, Nat.le_refl _⟩ ?_
            refine lv_istore_n (lv' := [(2, .int (mf_becomes m_at t_2 Wd R s_3.2.2 (m_at 10))), (3, .int (s_3.2.1 - (nI (zpc s_3.2.2)))), (4, .int (nI s_3.1)), (0, .ref (ad 0))]) hx hb dX7_oil_69 rfl hl (by decide) rfl (fun ls hl => ?_)
            refine lv_iinc (v := nI (s_3.1 + 1)) (lv' := [(4, .int (nI (s_3.1 + 1))), (2, .int (mf_becomes m_at t_2 Wd R s_3.2.2 (m_at 10))), (3, .int (s_3.2.1 - (nI (zpc s_3.2.2)))), (0, .ref (ad 0))]) hx hb dX7_oil_70 hl (k := 2) rfl (nI_add s_3.1 1) (by decide) rfl (fun ls hl => ?_)
            refine lv_goto (tgt := 34) hx hb dX7_oil_73 (by decide) ?_
            exact ih_3 (s_3.1 + 1, s_3.2.1 - (nI (zpc s_3.2.2)), mf_becomes m_at t_2 Wd R s_3.2.2 (m_at 10)) (by omega) ((zw_l (by rw [mf_oil_B34, if_neg c_4, if_neg c_5])).symm.trans hR_3) (by omega) H locs hP hD hS ls (lv_sub hl [0, 2, 1, 3] rfl)
    exact hlp_3 _ (0, much, m_at 3) (Nat.lt_succ_self _) (by rw [mf_oil_L34]) (by omega) H locs hP hD hS ls (lv_sub hl [0, 1, 2, 3] rfl)
  · refine lv_aload_n hx hb dX7_oil_12 rfl (lv_at hl 0 rfl) ?_
    refine lv_iconst (v := 1) hx hb dX7_oil_13 (by decide) ?_
    refine zr_muV (F := ()) (ff := fun _ => True) (rr := fun _ => some (.int (-1))) (w1 := fun _ => (mW G ad 1 m_top m_bottom m_taped m_size m_token m_from m_end m_value m_faultKind m_faultPlace m_faults m_seen m_depth m_counted m_lead m_round m_tried m_triedMany m_drawn m_ranSteps m_isTold m_marks m_at m_names m_sort m_trayMany m_trays m_tape m_text m_opened m_beside m_then m_ways m_further m_canBe m_loops m_ran m_told0)) ⟨hx, hb, hml, hown, hts⟩ (mt_mf_refuse l G ad m_status m_top m_bottom m_taped m_size m_token m_from m_end m_value m_faultKind m_faultPlace m_faults m_seen m_depth m_counted m_lead m_round m_tried m_triedMany m_drawn m_ranSteps m_isTold m_marks m_at m_names m_sort m_trayMany m_trays m_tape m_text m_opened m_beside m_then m_ways m_further m_canBe m_loops m_ran m_told0 1 H.size) (cwV 1 hts (lw_V q1666 q1668 qs66 q144 q1669) rfl rfl rfl hd_X7_refuse ⟨(Nat.le_of_ble_eq_true rfl), (Nat.le_of_ble_eq_true rfl)⟩) hP hD hS hA hK hE 0 7 rfl rfl rfl hl.1 rfl (Nat.le_of_ble_eq_true rfl) dX7_oil_14 ⟨Nat.le_refl _, Nat.le_refl _⟩ (fun _ _ _ H locs hP hD hS _ => ?_)
    refine W.eq (g2 := F0 m 17 ls [.int (-1)]) rfl ?_
    have e_ : mf_oil m_at m_beside Wd R much = ((-1), 1, m_beside) := by rw [mf_oil, if_neg c_1]
    exact zr_mi hx hb hr hlocks hP hD hS dX7_oil_17 (by rw [e_])  (by rw [e_]) trivial
def mf_brightest_B37 (m_at : Nat → Int32) (Wd : Nat) (R : Nat) (nights : Int32) (t_2 : (Nat → Int32)) (k_3 : Nat) (s_3 : Int32 × Int32) : Int32 × Int32 :=
  (zmax s_3.1 (nI (zpc (mf_becomes m_at t_2 Wd R s_3.2 (m_at 10)))), mf_becomes m_at t_2 Wd R s_3.2 (m_at 10))
def mf_brightest_L37 (m_at : Nat → Int32) (Wd : Nat) (R : Nat) (nights : Int32) (t_2 : (Nat → Int32)) (s_3 : Int32 × Int32) : Int32 × Int32 := zf (mf_brightest_B37 m_at Wd R nights t_2) s_3 nights.toNatClampNeg
def mf_brightest (m_at : Nat → Int32) (m_beside : Nat → Int32) (Wd : Nat) (R : Nat) (nights : Int32) : Int32 × Int32 × (Nat → Int32) :=
  (if (mf_isFrom nights.toInt64 0 999) = true then
    zlet (mf_laysNear m_at m_beside Wd R) (fun t_2 =>
    zlet (mf_brightest_L37 m_at Wd R nights t_2 (nI (zpc (m_at 3)), m_at 3)) (fun s_3 =>
    (s_3.1, 0, t_2)))
  else
    ((-1), 1, m_beside))
theorem hd_X7_brightest : yX7_brightest.cls = RX7 ∧ yX7_brightest.cls ≠ "java/lang/invoke/MethodHandle" ∧ yX7_brightest.cls ≠ "java/lang/invoke/VarHandle" ∧ (parseMethodDescriptor yX7_brightest.desc).map (fun d => d.parameters.length) = some 1 := by decide +kernel
set_option maxHeartbeats 4000000 in
set_option maxRecDepth 100000 in
theorem mt_mf_brightest (l : Launch) (G : zG) (ad : Nat → Nat) (m_status : Int32) (m_top : Int64) (m_bottom : Int64) (m_taped : Int32) (m_size : Int32) (m_token : Int32) (m_from : Int32) (m_end : Int32) (m_value : Int32) (m_faultKind : Int32) (m_faultPlace : Int32) (m_faults : Int32) (m_seen : Int32) (m_depth : Int32) (m_counted : Int32) (m_lead : Int32) (m_round : Int32) (m_tried : Int32) (m_triedMany : Int32) (m_drawn : Int32) (m_ranSteps : Int32) (m_isTold : Bool) (m_marks : Int32) (m_at : Nat → Int32) (m_names : Nat → Int64) (m_sort : Nat → Int32) (m_trayMany : Nat → Int32) (m_trays : Nat → Int64) (m_tape : Nat → Int32) (m_text : Nat → Int32) (m_opened : Nat → Int32) (m_beside : Nat → Int32) (m_then : Nat → Int32) (m_ways : Nat → Int64) (m_further : Nat → Int64) (m_canBe : Nat → Int32) (m_loops : Nat → Int32) (m_ran : Nat → Int32) (m_told0 : Nat → Int32) (Wd : Nat) (R : Nat) (nr : Nat) (nc : Nat) (nights : Int32) (hG : mOK m_at Wd R nr nc) (sz : Nat) : Met l yX7_brightest (ws_ yX7_brightest cX7_brightest 5 (some .int)) (zR 4 0 0) (zPm G sz [.ref (ad 0), .int nights] (mW G ad m_status m_top m_bottom m_taped m_size m_token m_from m_end m_value m_faultKind m_faultPlace m_faults m_seen m_depth m_counted m_lead m_round m_tried m_triedMany m_drawn m_ranSteps m_isTold m_marks m_at m_names m_sort m_trayMany m_trays m_tape m_text m_opened m_beside m_then m_ways m_further m_canBe m_loops m_ran m_told0)) (zQm G (True) (some (.int ((mf_brightest m_at m_beside Wd R nights).1))) (mW G ad ((mf_brightest m_at m_beside Wd R nights).2.1) m_top m_bottom m_taped m_size m_token m_from m_end m_value m_faultKind m_faultPlace m_faults m_seen m_depth m_counted m_lead m_round m_tried m_triedMany m_drawn m_ranSteps m_isTold m_marks m_at m_names m_sort m_trayMany m_trays m_tape m_text m_opened ((mf_brightest m_at m_beside Wd R nights).2.2) m_then m_ways m_further m_canBe m_loops m_ran m_told0) (va_A (mW G ad m_status m_top m_bottom m_taped m_size m_token m_from m_end m_value m_faultKind m_faultPlace m_faults m_seen m_depth m_counted m_lead m_round m_tried m_triedMany m_drawn m_ranSteps m_isTold m_marks m_at m_names m_sort m_trayMany m_trays m_tape m_text m_opened m_beside m_then m_ways m_further m_canBe m_loops m_ran m_told0) sz)) 0 0 (va_A (mW G ad m_status m_top m_bottom m_taped m_size m_token m_from m_end m_value m_faultKind m_faultPlace m_faults m_seen m_depth m_counted m_lead m_round m_tried m_triedMany m_drawn m_ranSteps m_isTold m_marks m_at m_names m_sort m_trayMany m_trays m_tape m_text m_opened m_beside m_then m_ways m_further m_canBe m_loops m_ran m_told0) sz) := by
  refine zr_entM (by decide) (Nat.le_of_ble_eq_true rfl) ?_
  intro p e s m below meth c ⟨hx, hb, hr, hml, hown, hts, hlocks, hnm⟩ ls hl hP hK A hE hA hD hS
  have hown : s.vm.findClass RX7 = some m.cls := hown
  have hl : lv_has ls 5 [(0, .ref (ad 0)), (1, .int nights)] := hl
  obtain ⟨H, hH⟩ : ∃ H, H = s.heap := ⟨_, rfl⟩
  obtain ⟨locs, hlo⟩ : ∃ L : List Loc, L = [] := ⟨_, rfl⟩
  rw [← hH] at hP
  have hS : va_S A s.heap H locs := by rw [hH, hlo]; exact va_S.rf
  have hgo : W p l e (zR 4 0 0) s m ([.ref (ad 0), .int nights] : List Value).toArray below meth c H locs 0 0 (MQ below (zQm G (True) (some (.int ((mf_brightest m_at m_beside Wd R nights).1))) (mW G ad ((mf_brightest m_at m_beside Wd R nights).2.1) m_top m_bottom m_taped m_size m_token m_from m_end m_value m_faultKind m_faultPlace m_faults m_seen m_depth m_counted m_lead m_round m_tried m_triedMany m_drawn m_ranSteps m_isTold m_marks m_at m_names m_sort m_trayMany m_trays m_tape m_text m_opened ((mf_brightest m_at m_beside Wd R nights).2.2) m_then m_ways m_further m_canBe m_loops m_ran m_told0) A) ([.ref (ad 0), .int nights] : List Value).toArray s 0 0 A) (F0 m 0 ls []) := ?_
  · rw [hH, hlo] at hgo; exact hgo
  clear hH hlo
  have hWR := mOK_WR hG
  have hW0 := mOK_W0 hG
  have hW5 := mOK_W5 hG
  have hR0 := mOK_R0 hG
  have hR6 := mOK_R6 hG
  have hn4 := mOK_n4 hG
  have hc6 := mOK_c6 hG
  refine lv_iload_n hx hb dX7_brightest_0 rfl (lv_at hl 1 rfl) ?_
  refine lv_i2l hx hb dX7_brightest_1 rfl ?_
  refine lv_lconst (v := 0) hx hb dX7_brightest_2 rfl ?_
  refine lv_ldc2 (v := 999) hx hb hown (hts _ q1884) dX7_brightest_3 ?_
  refine zr_puS ⟨hx, hb, hml, hown, hts⟩ (mt_mf_isFrom l nights.toInt64 0 999) (va_cwS 3 hts (lw_S q1848 q1849 q144 q1850) rfl rfl rfl hd_X7_isFrom.2 ⟨(Nat.le_of_ble_eq_true rfl), (Nat.le_of_ble_eq_true rfl)⟩) rfl hl.1 rfl (Nat.le_of_ble_eq_true rfl) dX7_brightest_6 ⟨Nat.le_refl _, Nat.le_refl _⟩ ?_
  refine zr_neB (mf_isFrom nights.toInt64 0 999) (tgt := 18) hx hb dX7_brightest_9 (by decide) (fun c_1 => ?_) (fun c_1 => ?_)
  · obtain ⟨hm0, hm1, hm2⟩ := isFrom_t (a := 0) (N := 999) (by decide) (by decide) c_1
    refine lv_aload_n hx hb dX7_brightest_18 rfl (lv_at hl 0 rfl) ?_
    refine zr_muV (F := mf_laysNear m_at m_beside Wd R) (ff := fun t_2 => True) (rr := fun t_2 => none) (w1 := fun t_2 => (mW G ad m_status m_top m_bottom m_taped m_size m_token m_from m_end m_value m_faultKind m_faultPlace m_faults m_seen m_depth m_counted m_lead m_round m_tried m_triedMany m_drawn m_ranSteps m_isTold m_marks m_at m_names m_sort m_trayMany m_trays m_tape m_text m_opened t_2 m_then m_ways m_further m_canBe m_loops m_ran m_told0)) ⟨hx, hb, hml, hown, hts⟩ (mt_mf_laysNear l G ad m_status m_top m_bottom m_taped m_size m_token m_from m_end m_value m_faultKind m_faultPlace m_faults m_seen m_depth m_counted m_lead m_round m_tried m_triedMany m_drawn m_ranSteps m_isTold m_marks m_at m_names m_sort m_trayMany m_trays m_tape m_text m_opened m_beside m_then m_ways m_further m_canBe m_loops m_ran m_told0 Wd R nr nc hG H.size) (cwV 0 hts (lw_V q1889 q1891 qs105 q144 q1892) rfl rfl rfl hd_X7_laysNear ⟨(Nat.le_of_ble_eq_true rfl), (Nat.le_of_ble_eq_true rfl)⟩) hP hD hS hA hK hE 0 7 rfl rfl rfl hl.1 rfl (Nat.le_of_ble_eq_true rfl) dX7_brightest_19 ⟨Nat.le_refl _, Nat.le_refl _⟩ (fun t_2 ht_2 hft_2 H locs hP hD hS _ => ?_)
    refine W.eq (g2 := F0 m 22 ls []) rfl ?_
    refine lv_aload_n hx hb dX7_brightest_22 rfl (lv_at hl 0 rfl) ?_
    refine va_get (D := G.1) (ci := 7) (v := .ref (ad 1)) (C := RX7) (T := TX7) (N := 39) hx hb hts in_X7 hown hK.1 hP 0 rfl rfl 0 (Nat.le_of_ble_eq_true rfl) (hts _ q1467) (fun _ h => h) rfl dX7_brightest_23 ?_
    refine lv_iconst (v := 3) hx hb dX7_brightest_26 (by decide) ?_
    refine zr_iald 3 (v := m_at 3) hx hb hK hP 1 rfl rfl (Nat.le_of_ble_eq_true rfl) rfl (by decide) rfl dX7_brightest_27 ?_
    refine lv_istore_n (lv' := [(2, .int (m_at 3)), (0, .ref (ad 0)), (1, .int nights)]) hx hb dX7_brightest_28 rfl hl (by decide) rfl (fun ls hl => ?_)
    refine lv_iload_n hx hb dX7_brightest_29 rfl (lv_at hl 0 rfl) ?_
    refine zr_puS ⟨hx, hb, hml, hown, hts⟩ (mt_bitsN l (m_at 3)) (va_cwS 1 hts (lw_S q1744 q1745 q144 q1746) rfl rfl rfl hd_X7_bits.2 ⟨(Nat.le_of_ble_eq_true rfl), (Nat.le_of_ble_eq_true rfl)⟩) rfl hl.1 rfl (Nat.le_of_ble_eq_true rfl) dX7_brightest_30 ⟨Nat.le_refl _, Nat.le_refl _⟩ ?_
    refine lv_istore_n (lv' := [(3, .int (nI (zpc (m_at 3)))), (2, .int (m_at 3)), (0, .ref (ad 0)), (1, .int nights)]) hx hb dX7_brightest_33 rfl hl (by decide) rfl (fun ls hl => ?_)
    have hl : lv_has ls 5 [(3, .int (nI (zpc (m_at 3)))), (2, .int (m_at 3)), (0, .ref (ad 0)), (1, .int (nI nights.toNatClampNeg))] := by rw [← (z_nn hm0 : nights = nI nights.toNatClampNeg)]; exact hl
    refine lv_iconst (v := 0) hx hb dX7_brightest_34 (by decide) ?_
    refine lv_istore (lv' := [(4, .int 0), (3, .int (nI (zpc (m_at 3)))), (2, .int (m_at 3)), (0, .ref (ad 0)), (1, .int (nI nights.toNatClampNeg))]) hx hb dX7_brightest_35 hl (by decide) rfl (fun ls hl => ?_)
    have hlp_3 : ∀ (n k_3 : Nat) (s_3 : Int32 × Int32), k_3 ≤ nights.toNatClampNeg → nights.toNatClampNeg < k_3 + n → zf (mf_brightest_B37 m_at Wd R nights t_2) (nI (zpc (m_at 3)), m_at 3) k_3 = s_3 → ∀ (H : Heap) (locs : List Loc), va_P G.1 zcl (mW G ad m_status m_top m_bottom m_taped m_size m_token m_from m_end m_value m_faultKind m_faultPlace m_faults m_seen m_depth m_counted m_lead m_round m_tried m_triedMany m_drawn m_ranSteps m_isTold m_marks m_at m_names m_sort m_trayMany m_trays m_tape m_text m_opened t_2 m_then m_ways m_further m_canBe m_loops m_ran m_told0) H → va_D A (mW G ad m_status m_top m_bottom m_taped m_size m_token m_from m_end m_value m_faultKind m_faultPlace m_faults m_seen m_depth m_counted m_lead m_round m_tried m_triedMany m_drawn m_ranSteps m_isTold m_marks m_at m_names m_sort m_trayMany m_trays m_tape m_text m_opened t_2 m_then m_ways m_further m_canBe m_loops m_ran m_told0) → va_S A s.heap H locs → ∀ ls : Array Slot, lv_has ls 5 [(4, .int (nI k_3)), (3, .int s_3.1), (2, .int s_3.2), (0, .ref (ad 0)), (1, .int (nI nights.toNatClampNeg))] → W p l e (zR 4 0 0) s m ([.ref (ad 0), .int nights] : List Value).toArray below meth c H locs 0 0 (MQ below (zQm G (True) (some (.int ((mf_brightest m_at m_beside Wd R nights).1))) (mW G ad ((mf_brightest m_at m_beside Wd R nights).2.1) m_top m_bottom m_taped m_size m_token m_from m_end m_value m_faultKind m_faultPlace m_faults m_seen m_depth m_counted m_lead m_round m_tried m_triedMany m_drawn m_ranSteps m_isTold m_marks m_at m_names m_sort m_trayMany m_trays m_tape m_text m_opened ((mf_brightest m_at m_beside Wd R nights).2.2) m_then m_ways m_further m_canBe m_loops m_ran m_told0) A) ([.ref (ad 0), .int nights] : List Value).toArray s 0 0 A) (F0 m 37 ls []) := by
      intro n
      induction n with
      | zero => intro k_3 s_3 h1 h2; exact absurd h2 (by omega)
      | succ n ih_3 =>
        intro k_3 s_3 hk_3 hn_3 hst_3 H locs hP hD hS ls hl
        refine lv_iload hx hb dX7_brightest_37 (lv_at hl 0 rfl) ?_
        refine lv_iload_n hx hb dX7_brightest_39 rfl (lv_at hl 4 rfl) ?_
        refine zr_ge k_3 nights.toNatClampNeg (by omega) (by omega) (tgt := 71) hx hb dX7_brightest_40 (by decide) (fun c_3 => ?_) (fun c_3 => ?_)
        · have ek_3 : k_3 = nights.toNatClampNeg := Nat.le_antisymm hk_3 c_3
          have hs_3 : mf_brightest_L37 m_at Wd R nights t_2 (nI (zpc (m_at 3)), m_at 3) = s_3 := by rw [ek_3] at hst_3; exact hst_3
          have hl := lv_sub hl (l' := _) [1, 2, 3, 4] rfl
          refine lv_aload_n hx hb dX7_brightest_71 rfl (lv_at hl 2 rfl) ?_
          refine lv_iload_n hx hb dX7_brightest_72 rfl (lv_at hl 0 rfl) ?_
          refine zr_muV (F := ()) (ff := fun _ => True) (rr := fun _ => some (.int s_3.1)) (w1 := fun _ => (mW G ad 0 m_top m_bottom m_taped m_size m_token m_from m_end m_value m_faultKind m_faultPlace m_faults m_seen m_depth m_counted m_lead m_round m_tried m_triedMany m_drawn m_ranSteps m_isTold m_marks m_at m_names m_sort m_trayMany m_trays m_tape m_text m_opened t_2 m_then m_ways m_further m_canBe m_loops m_ran m_told0)) ⟨hx, hb, hml, hown, hts⟩ (mt_mf_gives l G ad m_status m_top m_bottom m_taped m_size m_token m_from m_end m_value m_faultKind m_faultPlace m_faults m_seen m_depth m_counted m_lead m_round m_tried m_triedMany m_drawn m_ranSteps m_isTold m_marks m_at m_names m_sort m_trayMany m_trays m_tape m_text m_opened t_2 m_then m_ways m_further m_canBe m_loops m_ran m_told0 s_3.1 H.size) (cwV 1 hts (lw_V q1751 q1753 qs85 q144 q1754) rfl rfl rfl hd_X7_gives ⟨(Nat.le_of_ble_eq_true rfl), (Nat.le_of_ble_eq_true rfl)⟩) hP hD hS hA hK hE 0 7 rfl rfl rfl hl.1 rfl (Nat.le_of_ble_eq_true rfl) dX7_brightest_73 ⟨Nat.le_refl _, Nat.le_refl _⟩ (fun _ _ _ H locs hP hD hS _ => ?_)
          refine W.eq (g2 := F0 m 76 ls [.int s_3.1]) rfl ?_
          have e_ : mf_brightest m_at m_beside Wd R nights = (s_3.1, 0, t_2) := by rw [mf_brightest, if_pos c_1, zlet_eq ht_2, zlet_eq hs_3]
          exact zr_mi hx hb hr hlocks hP hD hS dX7_brightest_76 (by rw [e_])  (by rw [e_]) trivial
        · have hlt_3 : k_3 < nights.toNatClampNeg := Nat.lt_of_not_le c_3
          refine lv_aload_n hx hb dX7_brightest_43 rfl (lv_at hl 3 rfl) ?_
          refine lv_iload_n hx hb dX7_brightest_44 rfl (lv_at hl 2 rfl) ?_
          refine lv_aload_n hx hb dX7_brightest_45 rfl (lv_at hl 3 rfl) ?_
          refine va_get (D := G.1) (ci := 7) (v := .ref (ad 1)) (C := RX7) (T := TX7) (N := 39) hx hb hts in_X7 hown hK.1 hP 0 rfl rfl 0 (Nat.le_of_ble_eq_true rfl) (hts _ q1467) (fun _ h => h) rfl dX7_brightest_46 ?_
          refine lv_bipush (v := 10) hx hb dX7_brightest_49 (by decide) ?_
          refine zr_iald 10 (v := m_at 10) hx hb hK hP 1 rfl rfl (Nat.le_of_ble_eq_true rfl) rfl (by decide) rfl dX7_brightest_51 ?_
          refine zr_obV ⟨hx, hb, hml, hown, hts⟩ (mt_mf_becomes l G ad m_status m_top m_bottom m_taped m_size m_token m_from m_end m_value m_faultKind m_faultPlace m_faults m_seen m_depth m_counted m_lead m_round m_tried m_triedMany m_drawn m_ranSteps m_isTold m_marks m_at m_names m_sort m_trayMany m_trays m_tape m_text m_opened t_2 m_then m_ways m_further m_canBe m_loops m_ran m_told0 Wd R nr nc s_3.2 (m_at 10) hG (mOK_by hG)) (cwV 2 hts (lw_V q1893 q1895 qs106 q144 q1896) rfl rfl rfl hd_X7_becomes ⟨(Nat.le_of_ble_eq_true rfl), (Nat.le_of_ble_eq_true rfl)⟩) hP hK (zE_o hE hS) 0 7 rfl rfl rfl hl.1 rfl (Nat.le_of_ble_eq_true rfl) dX7_brightest_52 ⟨Nat.le_refl _, Nat.le_refl _⟩ ?_
          refine lv_istore_n (lv' := [(2, .int (mf_becomes m_at t_2 Wd R s_3.2 (m_at 10))), (4, .int (nI k_3)), (3, .int s_3.1), (0, .ref (ad 0)), (1, .int (nI nights.toNatClampNeg))]) hx hb dX7_brightest_55 rfl hl (by decide) rfl (fun ls hl => ?_)
          refine lv_iload_n hx hb dX7_brightest_56 rfl (lv_at hl 2 rfl) ?_
          refine lv_iload_n hx hb dX7_brightest_57 rfl (lv_at hl 0 rfl) ?_
          refine zr_puS ⟨hx, hb, hml, hown, hts⟩ (mt_bitsN l (mf_becomes m_at t_2 Wd R s_3.2 (m_at 10))) (va_cwS 1 hts (lw_S q1744 q1745 q144 q1746) rfl rfl rfl hd_X7_bits.2 ⟨(Nat.le_of_ble_eq_true rfl), (Nat.le_of_ble_eq_true rfl)⟩) rfl hl.1 rfl (Nat.le_of_ble_eq_true rfl) dX7_brightest_58 ⟨Nat.le_refl _, Nat.le_refl _⟩ ?_
          refine va_mmax (x := s_3.1) (y := nI (zpc (mf_becomes m_at t_2 Wd R s_3.2 (m_at 10)))) hx hb (hml.trans hl.1.symm) hown (hts _ q1947) (hts _ q1149) (hts _ q156) (hts _ q1150) (Nat.le_of_ble_eq_true rfl) (Nat.le_of_ble_eq_true rfl) (Nat.le_refl _) (Nat.le_refl _) dX7_brightest_61 ?_
          refine W.eq (g2 := F0 m 64 ls [.int (zmax s_3.1 (nI (zpc (mf_becomes m_at t_2 Wd R s_3.2 (m_at 10)))))]) rfl ?_
          refine lv_istore_n (lv' := [(3, .int (zmax s_3.1 (nI (zpc (mf_becomes m_at t_2 Wd R s_3.2 (m_at 10)))))), (2, .int (mf_becomes m_at t_2 Wd R s_3.2 (m_at 10))), (4, .int (nI k_3)), (0, .ref (ad 0)), (1, .int (nI nights.toNatClampNeg))]) hx hb dX7_brightest_64 rfl hl (by decide) rfl (fun ls hl => ?_)
          refine lv_iinc (v := nI (k_3 + 1)) (lv' := [(4, .int (nI (k_3 + 1))), (3, .int (zmax s_3.1 (nI (zpc (mf_becomes m_at t_2 Wd R s_3.2 (m_at 10)))))), (2, .int (mf_becomes m_at t_2 Wd R s_3.2 (m_at 10))), (0, .ref (ad 0)), (1, .int (nI nights.toNatClampNeg))]) hx hb dX7_brightest_65 hl (k := 2) rfl (nI_add k_3 1) (by decide) rfl (fun ls hl => ?_)
          refine lv_goto (tgt := 37) hx hb dX7_brightest_68 (by decide) ?_
          exact ih_3 (k_3 + 1) (zmax s_3.1 (nI (zpc (mf_becomes m_at t_2 Wd R s_3.2 (m_at 10)))), mf_becomes m_at t_2 Wd R s_3.2 (m_at 10)) hlt_3 (by omega) (zf_s hst_3 (by rw [mf_brightest_B37])) H locs hP hD hS ls (lv_sub hl [0, 1, 2, 3, 4] rfl)
    exact hlp_3 (nights.toNatClampNeg + 1) 0 (nI (zpc (m_at 3)), m_at 3) (Nat.zero_le _) (by omega) rfl H locs hP hD hS ls (lv_sub hl [0, 1, 2, 3, 4] rfl)
  · refine lv_aload_n hx hb dX7_brightest_12 rfl (lv_at hl 0 rfl) ?_
    refine lv_iconst (v := 1) hx hb dX7_brightest_13 (by decide) ?_
    refine zr_muV (F := ()) (ff := fun _ => True) (rr := fun _ => some (.int (-1))) (w1 := fun _ => (mW G ad 1 m_top m_bottom m_taped m_size m_token m_from m_end m_value m_faultKind m_faultPlace m_faults m_seen m_depth m_counted m_lead m_round m_tried m_triedMany m_drawn m_ranSteps m_isTold m_marks m_at m_names m_sort m_trayMany m_trays m_tape m_text m_opened m_beside m_then m_ways m_further m_canBe m_loops m_ran m_told0)) ⟨hx, hb, hml, hown, hts⟩ (mt_mf_refuse l G ad m_status m_top m_bottom m_taped m_size m_token m_from m_end m_value m_faultKind m_faultPlace m_faults m_seen m_depth m_counted m_lead m_round m_tried m_triedMany m_drawn m_ranSteps m_isTold m_marks m_at m_names m_sort m_trayMany m_trays m_tape m_text m_opened m_beside m_then m_ways m_further m_canBe m_loops m_ran m_told0 1 H.size) (cwV 1 hts (lw_V q1666 q1668 qs66 q144 q1669) rfl rfl rfl hd_X7_refuse ⟨(Nat.le_of_ble_eq_true rfl), (Nat.le_of_ble_eq_true rfl)⟩) hP hD hS hA hK hE 0 7 rfl rfl rfl hl.1 rfl (Nat.le_of_ble_eq_true rfl) dX7_brightest_14 ⟨Nat.le_refl _, Nat.le_refl _⟩ (fun _ _ _ H locs hP hD hS _ => ?_)
    refine W.eq (g2 := F0 m 17 ls [.int (-1)]) rfl ?_
    have e_ : mf_brightest m_at m_beside Wd R nights = ((-1), 1, m_beside) := by rw [mf_brightest, if_neg c_1]
    exact zr_mi hx hb hr hlocks hP hD hS dX7_brightest_17 (by rw [e_])  (by rw [e_]) trivial
