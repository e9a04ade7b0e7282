def mf_fitsRow (m_at : Nat → Int32) (Wd : Nat) (row : Int32) (y : Int32) : Bool :=
  (if (row &&& ((mf_rowOf Wd (m_at 2) y) ^^^ (-1))) = 0 then
    (if (row &&& (mf_rowOf Wd (m_at 4) y)) = ((mf_rowOf Wd (m_at 3) y) &&& (mf_rowOf Wd (m_at 4) y)) then
      true
    else
      false)
  else
    false)
theorem hd_X7_fitsRow : yX7_fitsRow.cls = RX7 ∧ yX7_fitsRow.cls ≠ "java/lang/invoke/MethodHandle" ∧ yX7_fitsRow.cls ≠ "java/lang/invoke/VarHandle" ∧ (parseMethodDescriptor yX7_fitsRow.desc).map (fun d => d.parameters.length) = some 2 := by decide +kernel
set_option maxHeartbeats 4000000 in
set_option maxRecDepth 100000 in
theorem mt_mf_fitsRow (l : Launch) (G : zG) (ad : Nat → Nat) (m_status : Int32) (m_top : Int64) (m_bottom : Int64) (m_taped : Int32) (m_size : Int32) (m_token : Int32) (m_from : Int32) (m_end : Int32) (m_value : Int32) (m_faultKind : Int32) (m_faultPlace : Int32) (m_faults : Int32) (m_seen : Int32) (m_depth : Int32) (m_counted : Int32) (m_lead : Int32) (m_round : Int32) (m_tried : Int32) (m_triedMany : Int32) (m_drawn : Int32) (m_ranSteps : Int32) (m_isTold : Bool) (m_marks : Int32) (m_at : Nat → Int32) (m_names : Nat → Int64) (m_sort : Nat → Int32) (m_trayMany : Nat → Int32) (m_trays : Nat → Int64) (m_tape : Nat → Int32) (m_text : Nat → Int32) (m_opened : Nat → Int32) (m_beside : Nat → Int32) (m_then : Nat → Int32) (m_ways : Nat → Int64) (m_further : Nat → Int64) (m_canBe : Nat → Int32) (m_loops : Nat → Int32) (m_ran : Nat → Int32) (m_told0 : Nat → Int32) (Wd : Nat) (R : Nat) (nr : Nat) (nc : Nat) (row : Int32) (y : Int32) (hG : mOK m_at Wd R nr nc) : Met l yX7_fitsRow (ws_ yX7_fitsRow cX7_fitsRow 5 (some .boolean)) (zR 2 0 0) (zPo G [.ref (ad 0), .int row, .int y] (mW G ad m_status m_top m_bottom m_taped m_size m_token m_from m_end m_value m_faultKind m_faultPlace m_faults m_seen m_depth m_counted m_lead m_round m_tried m_triedMany m_drawn m_ranSteps m_isTold m_marks m_at m_names m_sort m_trayMany m_trays m_tape m_text m_opened m_beside m_then m_ways m_further m_canBe m_loops m_ran m_told0)) (k2_QcV (.int (zb (mf_fitsRow m_at Wd row y)))) 0 0 (fun _ => False) := by
  refine zr_entO (by decide) (Nat.le_of_ble_eq_true rfl) ?_
  intro p e s m below meth c ⟨hx, hb, hr, hml, hown, hts, hlocks, hnm⟩ ls hl hP hK hE
  have hown : s.vm.findClass RX7 = some m.cls := hown
  have hl : lv_has ls 5 [(0, .ref (ad 0)), (1, .int row), (2, .int y)] := hl
  have hWR := mOK_WR hG
  have hW0 := mOK_W0 hG
  have hW5 := mOK_W5 hG
  have hR0 := mOK_R0 hG
  have hR6 := mOK_R6 hG
  have hn4 := mOK_n4 hG
  have hc6 := mOK_c6 hG
  refine lv_aload_n hx hb dX7_fitsRow_0 rfl (lv_at hl 0 rfl) ?_
  refine lv_aload_n hx hb dX7_fitsRow_1 rfl (lv_at hl 0 rfl) ?_
  refine va_get (D := G.1) (ci := 7) (v := .ref (ad 1)) (C := RX7) (T := TX7) (N := 39) hx hb hts in_X7 hown hK.1 hP 0 rfl rfl 0 (Nat.le_of_ble_eq_true rfl) (hts _ q1467) (fun _ h => h) rfl dX7_fitsRow_2 ?_
  refine lv_iconst (v := 2) hx hb dX7_fitsRow_5 (by decide) ?_
  refine zr_iald 2 (v := m_at 2) hx hb hK hP 1 rfl rfl (Nat.le_of_ble_eq_true rfl) rfl (by decide) rfl dX7_fitsRow_6 ?_
  refine lv_iload_n hx hb dX7_fitsRow_7 rfl (lv_at hl 2 rfl) ?_
  refine zr_obV ⟨hx, hb, hml, hown, hts⟩ (mt_mf_rowOf l G ad m_status m_top m_bottom m_taped m_size m_token m_from m_end m_value m_faultKind m_faultPlace m_faults m_seen m_depth m_counted m_lead m_round m_tried m_triedMany m_drawn m_ranSteps m_isTold m_marks m_at m_names m_sort m_trayMany m_trays m_tape m_text m_opened m_beside m_then m_ways m_further m_canBe m_loops m_ran m_told0 Wd R nr nc (m_at 2) y hG) (cwV 2 hts (lw_V q1868 q1870 qs103 q144 q1871) rfl rfl rfl hd_X7_rowOf ⟨(Nat.le_of_ble_eq_true rfl), (Nat.le_of_ble_eq_true rfl)⟩) hP hK hE 0 7 rfl rfl rfl hl.1 rfl (Nat.le_of_ble_eq_true rfl) dX7_fitsRow_8 ⟨Nat.le_refl _, Nat.le_refl _⟩ ?_
  refine lv_istore_n (lv' := [(3, .int (mf_rowOf Wd (m_at 2) y)), (0, .ref (ad 0)), (1, .int row), (2, .int y)]) hx hb dX7_fitsRow_11 rfl hl (by decide) rfl (fun ls hl => ?_)
  refine lv_aload_n hx hb dX7_fitsRow_12 rfl (lv_at hl 1 rfl) ?_
  refine lv_aload_n hx hb dX7_fitsRow_13 rfl (lv_at hl 1 rfl) ?_
  refine va_get (D := G.1) (ci := 7) (v := .ref (ad 1)) (C := RX7) (T := TX7) (N := 39) hx hb hts in_X7 hown hK.1 hP 0 rfl rfl 0 (Nat.le_of_ble_eq_true rfl) (hts _ q1467) (fun _ h => h) rfl dX7_fitsRow_14 ?_
  refine lv_iconst (v := 4) hx hb dX7_fitsRow_17 (by decide) ?_
  refine zr_iald 4 (v := m_at 4) hx hb hK hP 1 rfl rfl (Nat.le_of_ble_eq_true rfl) rfl (by decide) rfl dX7_fitsRow_18 ?_
  refine lv_iload_n hx hb dX7_fitsRow_19 rfl (lv_at hl 3 rfl) ?_
  refine zr_obV ⟨hx, hb, hml, hown, hts⟩ (mt_mf_rowOf l G ad m_status m_top m_bottom m_taped m_size m_token m_from m_end m_value m_faultKind m_faultPlace m_faults m_seen m_depth m_counted m_lead m_round m_tried m_triedMany m_drawn m_ranSteps m_isTold m_marks m_at m_names m_sort m_trayMany m_trays m_tape m_text m_opened m_beside m_then m_ways m_further m_canBe m_loops m_ran m_told0 Wd R nr nc (m_at 4) y hG) (cwV 2 hts (lw_V q1868 q1870 qs103 q144 q1871) rfl rfl rfl hd_X7_rowOf ⟨(Nat.le_of_ble_eq_true rfl), (Nat.le_of_ble_eq_true rfl)⟩) hP hK hE 0 7 rfl rfl rfl hl.1 rfl (Nat.le_of_ble_eq_true rfl) dX7_fitsRow_20 ⟨Nat.le_refl _, Nat.le_refl _⟩ ?_
  refine lv_istore (lv' := [(4, .int (mf_rowOf Wd (m_at 4) y)), (3, .int (mf_rowOf Wd (m_at 2) y)), (0, .ref (ad 0)), (1, .int row), (2, .int y)]) hx hb dX7_fitsRow_23 hl (by decide) rfl (fun ls hl => ?_)
  refine lv_iload_n hx hb dX7_fitsRow_25 rfl (lv_at hl 3 rfl) ?_
  refine lv_iload_n hx hb dX7_fitsRow_26 rfl (lv_at hl 1 rfl) ?_
  refine lv_iconst (v := (-1)) hx hb dX7_fitsRow_27 (by decide) ?_
  refine lv_ixor hx hb dX7_fitsRow_28 ?_
  refine lv_iand hx hb dX7_fitsRow_29 ?_
  refine lv_if_ne (tgt := 58) hx hb dX7_fitsRow_30 (by decide) (fun c_1 => ?_) (fun c_1 => ?_)
  · refine lv_iconst (v := 0) hx hb dX7_fitsRow_58 (by decide) ?_
    have e_ : mf_fitsRow m_at Wd row y = false := by rw [mf_fitsRow, if_neg c_1]
    exact zr_oz hx hb hr hlocks dX7_fitsRow_59 rfl (congrArg (fun z => Value.int (zb z)) e_)
  · refine lv_iload_n hx hb dX7_fitsRow_33 rfl (lv_at hl 3 rfl) ?_
    refine lv_iload hx hb dX7_fitsRow_34 (lv_at hl 0 rfl) ?_
    refine lv_iand hx hb dX7_fitsRow_36 ?_
    refine lv_aload_n hx hb dX7_fitsRow_37 rfl (lv_at hl 2 rfl) ?_
    refine lv_aload_n hx hb dX7_fitsRow_38 rfl (lv_at hl 2 rfl) ?_
    refine va_get (D := G.1) (ci := 7) (v := .ref (ad 1)) (C := RX7) (T := TX7) (N := 39) hx hb hts in_X7 hown hK.1 hP 0 rfl rfl 0 (Nat.le_of_ble_eq_true rfl) (hts _ q1467) (fun _ h => h) rfl dX7_fitsRow_39 ?_
    refine lv_iconst (v := 3) hx hb dX7_fitsRow_42 (by decide) ?_
    refine zr_iald 3 (v := m_at 3) hx hb hK hP 1 rfl rfl (Nat.le_of_ble_eq_true rfl) rfl (by decide) rfl dX7_fitsRow_43 ?_
    refine lv_iload_n hx hb dX7_fitsRow_44 rfl (lv_at hl 4 rfl) ?_
    refine zr_obV ⟨hx, hb, hml, hown, hts⟩ (mt_mf_rowOf l G ad m_status m_top m_bottom m_taped m_size m_token m_from m_end m_value m_faultKind m_faultPlace m_faults m_seen m_depth m_counted m_lead m_round m_tried m_triedMany m_drawn m_ranSteps m_isTold m_marks m_at m_names m_sort m_trayMany m_trays m_tape m_text m_opened m_beside m_then m_ways m_further m_canBe m_loops m_ran m_told0 Wd R nr nc (m_at 3) y hG) (cwV 2 hts (lw_V q1868 q1870 qs103 q144 q1871) rfl rfl rfl hd_X7_rowOf ⟨(Nat.le_of_ble_eq_true rfl), (Nat.le_of_ble_eq_true rfl)⟩) hP hK hE 0 7 rfl rfl rfl hl.1 rfl (Nat.le_of_ble_eq_true rfl) dX7_fitsRow_45 ⟨Nat.le_refl _, Nat.le_refl _⟩ ?_
    refine lv_iload hx hb dX7_fitsRow_48 (lv_at hl 0 rfl) ?_
    refine lv_iand hx hb dX7_fitsRow_50 ?_
    refine lv_icmp_ne (tgt := 58) hx hb dX7_fitsRow_51 (by decide) (fun c_2 => ?_) (fun c_2 => ?_)
    · refine lv_iconst (v := 0) hx hb dX7_fitsRow_58 (by decide) ?_
      have e_ : mf_fitsRow m_at Wd row y = false := by rw [mf_fitsRow, if_pos c_1, if_neg c_2]
      exact zr_oz hx hb hr hlocks dX7_fitsRow_59 rfl (congrArg (fun z => Value.int (zb z)) e_)
    · refine lv_iconst (v := 1) hx hb dX7_fitsRow_54 (by decide) ?_
      refine lv_goto (tgt := 59) hx hb dX7_fitsRow_55 (by decide) ?_
      have e_ : mf_fitsRow m_at Wd row y = true := by rw [mf_fitsRow, if_pos c_1, if_pos c_2]
      exact zr_oz hx hb hr hlocks dX7_fitsRow_59 rfl (congrArg (fun z => Value.int (zb z)) e_)
def mf_rowBecomes_B56 (m_at : Nat → Int32) (Wd : Nat) (above : Int32) (row : Int32) (undr : Int32) (y : Int32) (s_1 : Nat × Int32) : (Nat × Int32) ⊕ (Nat × Int32) :=
  (if Wd ≤ s_1.1 then
    .inr (s_1.1, s_1.2)
  else
    (if (m_at 10) = (-1) then
      .inr (s_1.1, s_1.2)
    else
      (if (((mf_rowOf Wd (m_at 2) y) &&& ((mf_rowOf Wd (m_at 4) y) ^^^ (-1))) &&& ((1 : Int32) <<< ((nI s_1.1) &&& 31))) = 0 then
        .inl (s_1.1 + 1, s_1.2)
      else
        (if s_1.1 = 0 then
          (if (m_at 9) = 1 then
            (if Wd ≤ (s_1.1 + 1) then
              zlet (s_1.2 ||| ((((m_at (12 + (2 * ((m_at 10).toNatClampNeg)) + (((row >>> ((nI s_1.1) &&& 31)) &&& 1).toNatClampNeg))) >>> ((((((above >>> ((nI s_1.1) &&& 31)) &&& 1) + ((undr >>> ((nI s_1.1) &&& 31)) &&& 1)) + ((row >>> ((nI (Wd - 1)) &&& 31)) &&& 1)) + (row &&& 1)) &&& 31)) &&& 1) <<< ((nI s_1.1) &&& 31))) (fun v_10 =>
              .inl (s_1.1 + 1, v_10))
            else
              zlet (s_1.2 ||| ((((m_at (12 + (2 * ((m_at 10).toNatClampNeg)) + (((row >>> ((nI s_1.1) &&& 31)) &&& 1).toNatClampNeg))) >>> ((((((above >>> ((nI s_1.1) &&& 31)) &&& 1) + ((undr >>> ((nI s_1.1) &&& 31)) &&& 1)) + ((row >>> ((nI (Wd - 1)) &&& 31)) &&& 1)) + ((row >>> ((nI (s_1.1 + 1)) &&& 31)) &&& 1)) &&& 31)) &&& 1) <<< ((nI s_1.1) &&& 31))) (fun v_11 =>
              .inl (s_1.1 + 1, v_11)))
          else
            (if Wd ≤ (s_1.1 + 1) then
              .inl (s_1.1 + 1, s_1.2 ||| ((((m_at (12 + (2 * ((m_at 10).toNatClampNeg)) + (((row >>> ((nI s_1.1) &&& 31)) &&& 1).toNatClampNeg))) >>> ((((above >>> ((nI s_1.1) &&& 31)) &&& 1) + ((undr >>> ((nI s_1.1) &&& 31)) &&& 1)) &&& 31)) &&& 1) <<< ((nI s_1.1) &&& 31)))
            else
              zlet (s_1.2 ||| ((((m_at (12 + (2 * ((m_at 10).toNatClampNeg)) + (((row >>> ((nI s_1.1) &&& 31)) &&& 1).toNatClampNeg))) >>> (((((above >>> ((nI s_1.1) &&& 31)) &&& 1) + ((undr >>> ((nI s_1.1) &&& 31)) &&& 1)) + ((row >>> ((nI (s_1.1 + 1)) &&& 31)) &&& 1)) &&& 31)) &&& 1) <<< ((nI s_1.1) &&& 31))) (fun v_8 =>
              .inl (s_1.1 + 1, v_8))))
        else
          (if Wd ≤ (s_1.1 + 1) then
            (if (m_at 9) = 1 then
              zlet (s_1.2 ||| ((((m_at (12 + (2 * ((m_at 10).toNatClampNeg)) + (((row >>> ((nI s_1.1) &&& 31)) &&& 1).toNatClampNeg))) >>> ((((((above >>> ((nI s_1.1) &&& 31)) &&& 1) + ((undr >>> ((nI s_1.1) &&& 31)) &&& 1)) + ((row >>> ((nI (s_1.1 - 1)) &&& 31)) &&& 1)) + (row &&& 1)) &&& 31)) &&& 1) <<< ((nI s_1.1) &&& 31))) (fun v_15 =>
              .inl (s_1.1 + 1, v_15))
            else
              zlet (s_1.2 ||| ((((m_at (12 + (2 * ((m_at 10).toNatClampNeg)) + (((row >>> ((nI s_1.1) &&& 31)) &&& 1).toNatClampNeg))) >>> (((((above >>> ((nI s_1.1) &&& 31)) &&& 1) + ((undr >>> ((nI s_1.1) &&& 31)) &&& 1)) + ((row >>> ((nI (s_1.1 - 1)) &&& 31)) &&& 1)) &&& 31)) &&& 1) <<< ((nI s_1.1) &&& 31))) (fun v_14 =>
              .inl (s_1.1 + 1, v_14)))
          else
            zlet (s_1.2 ||| ((((m_at (12 + (2 * ((m_at 10).toNatClampNeg)) + (((row >>> ((nI s_1.1) &&& 31)) &&& 1).toNatClampNeg))) >>> ((((((above >>> ((nI s_1.1) &&& 31)) &&& 1) + ((undr >>> ((nI s_1.1) &&& 31)) &&& 1)) + ((row >>> ((nI (s_1.1 - 1)) &&& 31)) &&& 1)) + ((row >>> ((nI (s_1.1 + 1)) &&& 31)) &&& 1)) &&& 31)) &&& 1) <<< ((nI s_1.1) &&& 31))) (fun v_16 =>
            .inl (s_1.1 + 1, v_16)))))))
def mf_rowBecomes_L56 (m_at : Nat → Int32) (Wd : Nat) (above : Int32) (row : Int32) (undr : Int32) (y : Int32) (s_1 : Nat × Int32) : Nat × Int32 := zw (mf_rowBecomes_B56 m_at Wd above row undr y) (s_1) ((Wd - s_1.1) + 1) s_1
def mf_rowBecomes (m_at : Nat → Int32) (Wd : Nat) (above : Int32) (row : Int32) (undr : Int32) (y : Int32) : Int32 :=
  zlet (mf_rowBecomes_L56 m_at Wd above row undr y (0, (mf_rowOf Wd (m_at 3) y) &&& (mf_rowOf Wd (m_at 4) y))) (fun t_1 =>
  t_1.2)
theorem hd_X7_rowBecomes : yX7_rowBecomes.cls = RX7 ∧ yX7_rowBecomes.cls ≠ "java/lang/invoke/MethodHandle" ∧ yX7_rowBecomes.cls ≠ "java/lang/invoke/VarHandle" ∧ (parseMethodDescriptor yX7_rowBecomes.desc).map (fun d => d.parameters.length) = some 4 := by decide +kernel
set_option maxHeartbeats 4000000 in
set_option maxRecDepth 100000 in
theorem mt_mf_rowBecomes (l : Launch) (G : zG) (ad : Nat → Nat) (m_status : Int32) (m_top : Int64) (m_bottom : Int64) (m_taped : Int32) (m_size : Int32) (m_token : Int32) (m_from : Int32) (m_end : Int32) (m_value : Int32) (m_faultKind : Int32) (m_faultPlace : Int32) (m_faults : Int32) (m_seen : Int32) (m_depth : Int32) (m_counted : Int32) (m_lead : Int32) (m_round : Int32) (m_tried : Int32) (m_triedMany : Int32) (m_drawn : Int32) (m_ranSteps : Int32) (m_isTold : Bool) (m_marks : Int32) (m_at : Nat → Int32) (m_names : Nat → Int64) (m_sort : Nat → Int32) (m_trayMany : Nat → Int32) (m_trays : Nat → Int64) (m_tape : Nat → Int32) (m_text : Nat → Int32) (m_opened : Nat → Int32) (m_beside : Nat → Int32) (m_then : Nat → Int32) (m_ways : Nat → Int64) (m_further : Nat → Int64) (m_canBe : Nat → Int32) (m_loops : Nat → Int32) (m_ran : Nat → Int32) (m_told0 : Nat → Int32) (Wd : Nat) (R : Nat) (nr : Nat) (nc : Nat) (above : Int32) (row : Int32) (undr : Int32) (y : Int32) (hG : mOK m_at Wd R nr nc) : Met l yX7_rowBecomes (ws_ yX7_rowBecomes cX7_rowBecomes 11 (some .int)) (zR 2 0 0) (zPo G [.ref (ad 0), .int above, .int row, .int undr, .int y] (mW G ad m_status m_top m_bottom m_taped m_size m_token m_from m_end m_value m_faultKind m_faultPlace m_faults m_seen m_depth m_counted m_lead m_round m_tried m_triedMany m_drawn m_ranSteps m_isTold m_marks m_at m_names m_sort m_trayMany m_trays m_tape m_text m_opened m_beside m_then m_ways m_further m_canBe m_loops m_ran m_told0)) (k2_QcV (.int (mf_rowBecomes m_at Wd above row undr y))) 0 0 (fun _ => False) := by
  refine zr_entO (by decide) (Nat.le_of_ble_eq_true rfl) ?_
  intro p e s m below meth c ⟨hx, hb, hr, hml, hown, hts, hlocks, hnm⟩ ls hl hP hK hE
  have hown : s.vm.findClass RX7 = some m.cls := hown
  have hl : lv_has ls 11 [(0, .ref (ad 0)), (1, .int above), (2, .int row), (3, .int undr), (4, .int y)] := hl
  have hWR := mOK_WR hG
  have hW0 := mOK_W0 hG
  have hW5 := mOK_W5 hG
  have hR0 := mOK_R0 hG
  have hR6 := mOK_R6 hG
  have hn4 := mOK_n4 hG
  have hc6 := mOK_c6 hG
  refine lv_aload_n hx hb dX7_rowBecomes_0 rfl (lv_at hl 0 rfl) ?_
  refine va_get (D := G.1) (ci := 7) (v := .ref (ad 1)) (C := RX7) (T := TX7) (N := 39) hx hb hts in_X7 hown hK.1 hP 0 rfl rfl 0 (Nat.le_of_ble_eq_true rfl) (hts _ q1467) (fun _ h => h) rfl dX7_rowBecomes_1 ?_
  refine lv_iconst (v := 0) hx hb dX7_rowBecomes_4 (by decide) ?_
  refine zr_iald 0 (v := nI Wd) hx hb hK hP 1 rfl rfl (Nat.le_of_ble_eq_true rfl) rfl (by decide) (mOK_w hG) dX7_rowBecomes_5 ?_
  refine lv_istore (lv' := [(5, .int (nI Wd)), (0, .ref (ad 0)), (1, .int above), (2, .int row), (3, .int undr), (4, .int y)]) hx hb dX7_rowBecomes_6 hl (by decide) rfl (fun ls hl => ?_)
  refine lv_aload_n hx hb dX7_rowBecomes_8 rfl (lv_at hl 1 rfl) ?_
  refine lv_aload_n hx hb dX7_rowBecomes_9 rfl (lv_at hl 1 rfl) ?_
  refine va_get (D := G.1) (ci := 7) (v := .ref (ad 1)) (C := RX7) (T := TX7) (N := 39) hx hb hts in_X7 hown hK.1 hP 0 rfl rfl 0 (Nat.le_of_ble_eq_true rfl) (hts _ q1467) (fun _ h => h) rfl dX7_rowBecomes_10 ?_
  refine lv_iconst (v := 4) hx hb dX7_rowBecomes_13 (by decide) ?_
  refine zr_iald 4 (v := m_at 4) hx hb hK hP 1 rfl rfl (Nat.le_of_ble_eq_true rfl) rfl (by decide) rfl dX7_rowBecomes_14 ?_
  refine lv_iload hx hb dX7_rowBecomes_15 (lv_at hl 5 rfl) ?_
  refine zr_obV ⟨hx, hb, hml, hown, hts⟩ (mt_mf_rowOf l G ad m_status m_top m_bottom m_taped m_size m_token m_from m_end m_value m_faultKind m_faultPlace m_faults m_seen m_depth m_counted m_lead m_round m_tried m_triedMany m_drawn m_ranSteps m_isTold m_marks m_at m_names m_sort m_trayMany m_trays m_tape m_text m_opened m_beside m_then m_ways m_further m_canBe m_loops m_ran m_told0 Wd R nr nc (m_at 4) y hG) (cwV 2 hts (lw_V q1868 q1870 qs103 q144 q1871) rfl rfl rfl hd_X7_rowOf ⟨(Nat.le_of_ble_eq_true rfl), (Nat.le_of_ble_eq_true rfl)⟩) hP hK hE 0 7 rfl rfl rfl hl.1 rfl (Nat.le_of_ble_eq_true rfl) dX7_rowBecomes_17 ⟨Nat.le_refl _, Nat.le_refl _⟩ ?_
  refine lv_istore (lv' := [(6, .int (mf_rowOf Wd (m_at 4) y)), (5, .int (nI Wd)), (0, .ref (ad 0)), (1, .int above), (2, .int row), (3, .int undr), (4, .int y)]) hx hb dX7_rowBecomes_20 hl (by decide) rfl (fun ls hl => ?_)
  refine lv_aload_n hx hb dX7_rowBecomes_22 rfl (lv_at hl 2 rfl) ?_
  refine lv_aload_n hx hb dX7_rowBecomes_23 rfl (lv_at hl 2 rfl) ?_
  refine va_get (D := G.1) (ci := 7) (v := .ref (ad 1)) (C := RX7) (T := TX7) (N := 39) hx hb hts in_X7 hown hK.1 hP 0 rfl rfl 0 (Nat.le_of_ble_eq_true rfl) (hts _ q1467) (fun _ h => h) rfl dX7_rowBecomes_24 ?_
  refine lv_iconst (v := 2) hx hb dX7_rowBecomes_27 (by decide) ?_
  refine zr_iald 2 (v := m_at 2) hx hb hK hP 1 rfl rfl (Nat.le_of_ble_eq_true rfl) rfl (by decide) rfl dX7_rowBecomes_28 ?_
  refine lv_iload hx hb dX7_rowBecomes_29 (lv_at hl 6 rfl) ?_
  refine zr_obV ⟨hx, hb, hml, hown, hts⟩ (mt_mf_rowOf l G ad m_status m_top m_bottom m_taped m_size m_token m_from m_end m_value m_faultKind m_faultPlace m_faults m_seen m_depth m_counted m_lead m_round m_tried m_triedMany m_drawn m_ranSteps m_isTold m_marks m_at m_names m_sort m_trayMany m_trays m_tape m_text m_opened m_beside m_then m_ways m_further m_canBe m_loops m_ran m_told0 Wd R nr nc (m_at 2) y hG) (cwV 2 hts (lw_V q1868 q1870 qs103 q144 q1871) rfl rfl rfl hd_X7_rowOf ⟨(Nat.le_of_ble_eq_true rfl), (Nat.le_of_ble_eq_true rfl)⟩) hP hK hE 0 7 rfl rfl rfl hl.1 rfl (Nat.le_of_ble_eq_true rfl) dX7_rowBecomes_31 ⟨Nat.le_refl _, Nat.le_refl _⟩ ?_
  refine lv_istore (lv' := [(7, .int (mf_rowOf Wd (m_at 2) y)), (6, .int (mf_rowOf Wd (m_at 4) y)), (5, .int (nI Wd)), (0, .ref (ad 0)), (1, .int above), (2, .int row), (3, .int undr), (4, .int y)]) hx hb dX7_rowBecomes_34 hl (by decide) rfl (fun ls hl => ?_)
  refine lv_aload_n hx hb dX7_rowBecomes_36 rfl (lv_at hl 3 rfl) ?_
  refine lv_aload_n hx hb dX7_rowBecomes_37 rfl (lv_at hl 3 rfl) ?_
  refine va_get (D := G.1) (ci := 7) (v := .ref (ad 1)) (C := RX7) (T := TX7) (N := 39) hx hb hts in_X7 hown hK.1 hP 0 rfl rfl 0 (Nat.le_of_ble_eq_true rfl) (hts _ q1467) (fun _ h => h) rfl dX7_rowBecomes_38 ?_
  refine lv_iconst (v := 3) hx hb dX7_rowBecomes_41 (by decide) ?_
  refine zr_iald 3 (v := m_at 3) hx hb hK hP 1 rfl rfl (Nat.le_of_ble_eq_true rfl) rfl (by decide) rfl dX7_rowBecomes_42 ?_
  refine lv_iload hx hb dX7_rowBecomes_43 (lv_at hl 7 rfl) ?_
  refine zr_obV ⟨hx, hb, hml, hown, hts⟩ (mt_mf_rowOf l G ad m_status m_top m_bottom m_taped m_size m_token m_from m_end m_value m_faultKind m_faultPlace m_faults m_seen m_depth m_counted m_lead m_round m_tried m_triedMany m_drawn m_ranSteps m_isTold m_marks m_at m_names m_sort m_trayMany m_trays m_tape m_text m_opened m_beside m_then m_ways m_further m_canBe m_loops m_ran m_told0 Wd R nr nc (m_at 3) y hG) (cwV 2 hts (lw_V q1868 q1870 qs103 q144 q1871) rfl rfl rfl hd_X7_rowOf ⟨(Nat.le_of_ble_eq_true rfl), (Nat.le_of_ble_eq_true rfl)⟩) hP hK hE 0 7 rfl rfl rfl hl.1 rfl (Nat.le_of_ble_eq_true rfl) dX7_rowBecomes_45 ⟨Nat.le_refl _, Nat.le_refl _⟩ ?_
  refine lv_iload hx hb dX7_rowBecomes_48 (lv_at hl 1 rfl) ?_
  refine lv_iand hx hb dX7_rowBecomes_50 ?_
  refine lv_istore (lv' := [(8, .int ((mf_rowOf Wd (m_at 3) y) &&& (mf_rowOf Wd (m_at 4) y))), (7, .int (mf_rowOf Wd (m_at 2) y)), (6, .int (mf_rowOf Wd (m_at 4) y)), (5, .int (nI Wd)), (0, .ref (ad 0)), (1, .int above), (2, .int row), (3, .int undr), (4, .int y)]) hx hb dX7_rowBecomes_51 hl (by decide) rfl (fun ls hl => ?_)
  refine lv_iconst (v := 0) hx hb dX7_rowBecomes_53 (by decide) ?_
  refine lv_istore (lv' := [(9, .int 0), (8, .int ((mf_rowOf Wd (m_at 3) y) &&& (mf_rowOf Wd (m_at 4) y))), (7, .int (mf_rowOf Wd (m_at 2) y)), (6, .int (mf_rowOf Wd (m_at 4) y)), (5, .int (nI Wd)), (0, .ref (ad 0)), (1, .int above), (2, .int row), (3, .int undr), (4, .int y)]) hx hb dX7_rowBecomes_54 hl (by decide) rfl (fun ls hl => ?_)
  have hx_1 : ∀ t_1 : Nat × Int32, mf_rowBecomes_L56 m_at Wd above row undr y (0, (mf_rowOf Wd (m_at 3) y) &&& (mf_rowOf Wd (m_at 4) y)) = t_1 → ∀ ls : Array Slot, lv_has ls 11 [(8, .int t_1.2)] → W p l e (zR 2 0 0) s m ([.ref (ad 0), .int above, .int row, .int undr, .int y] : List Value).toArray below meth c s.heap [] 0 0 (MQ below (k2_QcV (.int (mf_rowBecomes m_at Wd above row undr y))) ([.ref (ad 0), .int above, .int row, .int undr, .int y] : List Value).toArray s 0 0 (fun _ => False)) (F0 m 239 ls []) := by
    intro t_1 ht_1 ls hl
    refine lv_iload hx hb dX7_rowBecomes_239 (lv_at hl 0 rfl) ?_
    have e_ : mf_rowBecomes m_at Wd above row undr y = t_1.2 := by rw [mf_rowBecomes, zlet_eq ht_1]
    exact zr_oi hx hb hr hlocks dX7_rowBecomes_241 (congrArg Value.int e_)
  have hlp_1 : ∀ (n : Nat) (s_1 : Nat × Int32), Wd - s_1.1 < n → zw (mf_rowBecomes_B56 m_at Wd above row undr y) (0, (mf_rowOf Wd (m_at 3) y) &&& (mf_rowOf Wd (m_at 4) y)) n s_1 = mf_rowBecomes_L56 m_at Wd above row undr y (0, (mf_rowOf Wd (m_at 3) y) &&& (mf_rowOf Wd (m_at 4) y)) → s_1.1 ≤ Wd → ∀ ls : Array Slot, lv_has ls 11 [(9, .int (nI s_1.1)), (8, .int s_1.2), (7, .int (mf_rowOf Wd (m_at 2) y)), (6, .int (mf_rowOf Wd (m_at 4) y)), (5, .int (nI Wd)), (0, .ref (ad 0)), (1, .int above), (2, .int row), (3, .int undr)] → W p l e (zR 2 0 0) s m ([.ref (ad 0), .int above, .int row, .int undr, .int y] : List Value).toArray below meth c s.heap [] 0 0 (MQ below (k2_QcV (.int (mf_rowBecomes m_at Wd above row undr y))) ([.ref (ad 0), .int above, .int row, .int undr, .int y] : List Value).toArray s 0 0 (fun _ => False)) (F0 m 56 ls []) := by
    intro n
    induction n with
    | zero => exact fun _ h => absurd h (Nat.not_lt_zero _)
    | succ n ih_1 =>
      intro s_1 hmu_1 hR_1 hi9 ls hl
      refine lv_iload hx hb dX7_rowBecomes_56 (lv_at hl 0 rfl) ?_
      refine lv_iload hx hb dX7_rowBecomes_58 (lv_at hl 4 rfl) ?_
      refine zr_ge s_1.1 Wd (by omega) (by omega) (tgt := 239) hx hb dX7_rowBecomes_60 (by decide) (fun c_2 => ?_) (fun c_2 => ?_)
      · exact hx_1 (s_1.1, s_1.2) (hR_1.symm.trans (zw_r (by rw [mf_rowBecomes_B56, if_pos c_2]))) ls (lv_sub hl [1] rfl)
      · refine lv_aload_n hx hb dX7_rowBecomes_63 rfl (lv_at hl 5 rfl) ?_
        refine va_get (D := G.1) (ci := 7) (v := .ref (ad 1)) (C := RX7) (T := TX7) (N := 39) hx hb hts in_X7 hown hK.1 hP 0 rfl rfl 0 (Nat.le_of_ble_eq_true rfl) (hts _ q1467) (fun _ h => h) rfl dX7_rowBecomes_64 ?_
        refine lv_bipush (v := 10) hx hb dX7_rowBecomes_67 (by decide) ?_
        refine zr_iald 10 (v := m_at 10) hx hb hK hP 1 rfl rfl (Nat.le_of_ble_eq_true rfl) rfl (by decide) rfl dX7_rowBecomes_69 ?_
        refine lv_iconst (v := (-1)) hx hb dX7_rowBecomes_70 (by decide) ?_
        refine lv_icmp_eq (tgt := 239) hx hb dX7_rowBecomes_71 (by decide) (fun c_3 => ?_) (fun c_3 => ?_)
        · exact hx_1 (s_1.1, s_1.2) (hR_1.symm.trans (zw_r (by rw [mf_rowBecomes_B56, if_neg c_2, if_pos c_3]))) ls (lv_sub hl [1] rfl)
        · obtain ⟨hq0, hq4⟩ := (mOK_by hG).resolve_left c_3
          refine lv_iload hx hb dX7_rowBecomes_74 (lv_at hl 2 rfl) ?_
          refine lv_iload hx hb dX7_rowBecomes_76 (lv_at hl 3 rfl) ?_
          refine lv_iconst (v := (-1)) hx hb dX7_rowBecomes_78 (by decide) ?_
          refine lv_ixor hx hb dX7_rowBecomes_79 ?_
          refine lv_iand hx hb dX7_rowBecomes_80 ?_
          refine lv_iconst (v := 1) hx hb dX7_rowBecomes_81 (by decide) ?_
          refine lv_iload hx hb dX7_rowBecomes_82 (lv_at hl 0 rfl) ?_
          refine lv_ishl hx hb dX7_rowBecomes_84 ?_
          refine lv_iand hx hb dX7_rowBecomes_85 ?_
          refine lv_if_ne (tgt := 92) hx hb dX7_rowBecomes_86 (by decide) (fun c_4 => ?_) (fun c_4 => ?_)
          · refine lv_iload_n hx hb dX7_rowBecomes_92 rfl (lv_at hl 6 rfl) ?_
            refine lv_iload hx hb dX7_rowBecomes_93 (lv_at hl 0 rfl) ?_
            refine lv_ishr hx hb dX7_rowBecomes_95 ?_
            refine lv_iconst (v := 1) hx hb dX7_rowBecomes_96 (by decide) ?_
            refine lv_iand hx hb dX7_rowBecomes_97 ?_
            refine lv_iload_n hx hb dX7_rowBecomes_98 rfl (lv_at hl 8 rfl) ?_
            refine lv_iload hx hb dX7_rowBecomes_99 (lv_at hl 0 rfl) ?_
            refine lv_ishr hx hb dX7_rowBecomes_101 ?_
            refine lv_iconst (v := 1) hx hb dX7_rowBecomes_102 (by decide) ?_
            refine lv_iand hx hb dX7_rowBecomes_103 ?_
            refine lv_iadd hx hb dX7_rowBecomes_104 ?_
            refine lv_istore (lv' := [(10, .int (((above >>> ((nI s_1.1) &&& 31)) &&& 1) + ((undr >>> ((nI s_1.1) &&& 31)) &&& 1))), (9, .int (nI s_1.1)), (8, .int s_1.2), (7, .int (mf_rowOf Wd (m_at 2) y)), (6, .int (mf_rowOf Wd (m_at 4) y)), (5, .int (nI Wd)), (0, .ref (ad 0)), (1, .int above), (2, .int row), (3, .int undr)]) hx hb dX7_rowBecomes_105 hl (by decide) rfl (fun ls hl => ?_)
            refine lv_iload hx hb dX7_rowBecomes_107 (lv_at hl 1 rfl) ?_
            refine zr_ifleN s_1.1 (by omega) (tgt := 128) hx hb dX7_rowBecomes_109 (by decide) (fun c_5 => ?_) (fun c_5 => ?_)
            · refine lv_aload_n hx hb dX7_rowBecomes_128 rfl (lv_at hl 6 rfl) ?_
              refine va_get (D := G.1) (ci := 7) (v := .ref (ad 1)) (C := RX7) (T := TX7) (N := 39) hx hb hts in_X7 hown hK.1 hP 0 rfl rfl 0 (Nat.le_of_ble_eq_true rfl) (hts _ q1467) (fun _ h => h) rfl dX7_rowBecomes_129 ?_
              refine lv_bipush (v := 9) hx hb dX7_rowBecomes_132 (by decide) ?_
              refine zr_iald 9 (v := m_at 9) hx hb hK hP 1 rfl rfl (Nat.le_of_ble_eq_true rfl) rfl (by decide) rfl dX7_rowBecomes_134 ?_
              refine lv_iconst (v := 1) hx hb dX7_rowBecomes_135 (by decide) ?_
              refine lv_icmp_ne (tgt := 152) hx hb dX7_rowBecomes_136 (by decide) (fun c_6 => ?_) (fun c_6 => ?_)
              · refine lv_iload hx hb dX7_rowBecomes_152 (lv_at hl 1 rfl) ?_
                refine lv_iconst (v := 1) hx hb dX7_rowBecomes_154 (by decide) ?_
                refine zr_iaddN s_1.1 1 hx hb dX7_rowBecomes_155 ?_
                refine lv_iload hx hb dX7_rowBecomes_156 (lv_at hl 5 rfl) ?_
                refine zr_ge (s_1.1 + 1) Wd (by omega) (by omega) (tgt := 177) hx hb dX7_rowBecomes_158 (by decide) (fun c_7 => ?_) (fun c_7 => ?_)
                · refine lv_aload_n hx hb dX7_rowBecomes_177 rfl (lv_at hl 6 rfl) ?_
                  refine va_get (D := G.1) (ci := 7) (v := .ref (ad 1)) (C := RX7) (T := TX7) (N := 39) hx hb hts in_X7 hown hK.1 hP 0 rfl rfl 0 (Nat.le_of_ble_eq_true rfl) (hts _ q1467) (fun _ h => h) rfl dX7_rowBecomes_178 ?_
                  refine lv_bipush (v := 9) hx hb dX7_rowBecomes_181 (by decide) ?_
                  refine zr_iald 9 (v := m_at 9) hx hb hK hP 1 rfl rfl (Nat.le_of_ble_eq_true rfl) rfl (by decide) rfl dX7_rowBecomes_183 ?_
                  refine lv_iconst (v := 1) hx hb dX7_rowBecomes_184 (by decide) ?_
                  refine lv_icmp_ne (tgt := 196) hx hb dX7_rowBecomes_185 (by decide) (fun _ => ?_) (fun z => absurd z c_6)
                  refine lv_iload hx hb dX7_rowBecomes_196 (lv_at hl 2 rfl) ?_
                  refine lv_aload_n hx hb dX7_rowBecomes_198 rfl (lv_at hl 6 rfl) ?_
                  refine va_get (D := G.1) (ci := 7) (v := .ref (ad 1)) (C := RX7) (T := TX7) (N := 39) hx hb hts in_X7 hown hK.1 hP 0 rfl rfl 0 (Nat.le_of_ble_eq_true rfl) (hts _ q1467) (fun _ h => h) rfl dX7_rowBecomes_199 ?_
                  refine lv_bipush (v := 12) hx hb dX7_rowBecomes_202 (by decide) ?_
                  refine lv_iconst (v := 2) hx hb dX7_rowBecomes_204 (by decide) ?_
                  refine lv_aload_n hx hb dX7_rowBecomes_205 rfl (lv_at hl 6 rfl) ?_
                  refine va_get (D := G.1) (ci := 7) (v := .ref (ad 1)) (C := RX7) (T := TX7) (N := 39) hx hb hts in_X7 hown hK.1 hP 0 rfl rfl 0 (Nat.le_of_ble_eq_true rfl) (hts _ q1467) (fun _ h => h) rfl dX7_rowBecomes_206 ?_
                  refine lv_bipush (v := 10) hx hb dX7_rowBecomes_209 (by decide) ?_
                  refine zr_iald 10 (v := m_at 10) hx hb hK hP 1 rfl rfl (Nat.le_of_ble_eq_true rfl) rfl (by decide) rfl dX7_rowBecomes_211 ?_
                  refine zr_val (congrArg Value.int (z_nn hq0)) ?_
                  refine W.eq (g2 := F0 m 212 ls [.int (nI ((m_at 10).toNatClampNeg)), .int 2, .int 12, .ref (ad 1), .int s_1.2]) rfl ?_
                  refine zr_imulN 2 ((m_at 10).toNatClampNeg) hx hb dX7_rowBecomes_212 ?_
                  refine zr_iaddN 12 (2 * ((m_at 10).toNatClampNeg)) hx hb dX7_rowBecomes_213 ?_
                  refine lv_iload_n hx hb dX7_rowBecomes_214 rfl (lv_at hl 8 rfl) ?_
                  refine lv_iload hx hb dX7_rowBecomes_215 (lv_at hl 1 rfl) ?_
                  refine lv_ishr hx hb dX7_rowBecomes_217 ?_
                  refine lv_iconst (v := 1) hx hb dX7_rowBecomes_218 (by decide) ?_
                  refine lv_iand hx hb dX7_rowBecomes_219 ?_
                  have hb1 : (((row >>> ((nI s_1.1) &&& 31)) &&& 1)).toNatClampNeg ≤ 1 := z_b1le _
                  refine zr_val (congrArg Value.int (z_b1 _)) ?_
                  refine W.eq (g2 := F0 m 220 ls [.int (nI (((row >>> ((nI s_1.1) &&& 31)) &&& 1).toNatClampNeg)), .int (nI (12 + (2 * ((m_at 10).toNatClampNeg)))), .ref (ad 1), .int s_1.2]) rfl ?_
                  refine zr_iaddN (12 + (2 * ((m_at 10).toNatClampNeg))) (((row >>> ((nI s_1.1) &&& 31)) &&& 1).toNatClampNeg) hx hb dX7_rowBecomes_220 ?_
                  refine zr_val (v' := .int (nI (12 + (2 * ((m_at 10).toNatClampNeg)) + (((row >>> ((nI s_1.1) &&& 31)) &&& 1).toNatClampNeg)))) (by rfl) ?_
                  refine zr_iald (12 + (2 * ((m_at 10).toNatClampNeg)) + (((row >>> ((nI s_1.1) &&& 31)) &&& 1).toNatClampNeg)) (v := m_at (12 + (2 * ((m_at 10).toNatClampNeg)) + (((row >>> ((nI s_1.1) &&& 31)) &&& 1).toNatClampNeg))) hx hb hK hP 1 rfl rfl (Nat.le_of_ble_eq_true rfl) rfl (by omega) rfl dX7_rowBecomes_221 ?_
                  refine lv_iload hx hb dX7_rowBecomes_222 (lv_at hl 0 rfl) ?_
                  refine lv_ishr hx hb dX7_rowBecomes_224 ?_
                  refine lv_iconst (v := 1) hx hb dX7_rowBecomes_225 (by decide) ?_
                  refine lv_iand hx hb dX7_rowBecomes_226 ?_
                  refine lv_iload hx hb dX7_rowBecomes_227 (lv_at hl 1 rfl) ?_
                  refine lv_ishl hx hb dX7_rowBecomes_229 ?_
                  refine lv_ior hx hb dX7_rowBecomes_230 ?_
                  refine lv_istore (lv' := [(8, .int (s_1.2 ||| ((((m_at (12 + (2 * ((m_at 10).toNatClampNeg)) + (((row >>> ((nI s_1.1) &&& 31)) &&& 1).toNatClampNeg))) >>> ((((above >>> ((nI s_1.1) &&& 31)) &&& 1) + ((undr >>> ((nI s_1.1) &&& 31)) &&& 1)) &&& 31)) &&& 1) <<< ((nI s_1.1) &&& 31)))), (10, .int (((above >>> ((nI s_1.1) &&& 31)) &&& 1) + ((undr >>> ((nI s_1.1) &&& 31)) &&& 1))), (9, .int (nI s_1.1)), (7, .int (mf_rowOf Wd (m_at 2) y)), (6, .int (mf_rowOf Wd (m_at 4) y)), (5, .int (nI Wd)), (0, .ref (ad 0)), (1, .int above), (2, .int row), (3, .int undr)]) hx hb dX7_rowBecomes_231 hl (by decide) rfl (fun ls hl => ?_)
                  refine lv_iinc (v := nI (s_1.1 + 1)) (lv' := [(9, .int (nI (s_1.1 + 1))), (8, .int (s_1.2 ||| ((((m_at (12 + (2 * ((m_at 10).toNatClampNeg)) + (((row >>> ((nI s_1.1) &&& 31)) &&& 1).toNatClampNeg))) >>> ((((above >>> ((nI s_1.1) &&& 31)) &&& 1) + ((undr >>> ((nI s_1.1) &&& 31)) &&& 1)) &&& 31)) &&& 1) <<< ((nI s_1.1) &&& 31)))), (10, .int (((above >>> ((nI s_1.1) &&& 31)) &&& 1) + ((undr >>> ((nI s_1.1) &&& 31)) &&& 1))), (7, .int (mf_rowOf Wd (m_at 2) y)), (6, .int (mf_rowOf Wd (m_at 4) y)), (5, .int (nI Wd)), (0, .ref (ad 0)), (1, .int above), (2, .int row), (3, .int undr)]) hx hb dX7_rowBecomes_233 hl (k := 2) rfl (nI_add s_1.1 1) (by decide) rfl (fun ls hl => ?_)
                  refine lv_goto (tgt := 56) hx hb dX7_rowBecomes_236 (by decide) ?_
                  exact ih_1 (s_1.1 + 1, s_1.2 ||| ((((m_at (12 + (2 * ((m_at 10).toNatClampNeg)) + (((row >>> ((nI s_1.1) &&& 31)) &&& 1).toNatClampNeg))) >>> ((((above >>> ((nI s_1.1) &&& 31)) &&& 1) + ((undr >>> ((nI s_1.1) &&& 31)) &&& 1)) &&& 31)) &&& 1) <<< ((nI s_1.1) &&& 31))) (by omega) ((zw_l (by rw [mf_rowBecomes_B56, if_neg c_2, if_neg c_3, if_neg c_4, if_pos c_5, if_neg c_6, if_pos c_7])).symm.trans hR_1) (by omega) ls (lv_sub hl [0, 1, 3, 4, 5, 6, 7, 8, 9] rfl)
                · refine lv_iload hx hb dX7_rowBecomes_161 (lv_at hl 0 rfl) ?_
                  refine lv_iload_n hx hb dX7_rowBecomes_163 rfl (lv_at hl 8 rfl) ?_
                  refine lv_iload hx hb dX7_rowBecomes_164 (lv_at hl 1 rfl) ?_
                  refine lv_iconst (v := 1) hx hb dX7_rowBecomes_166 (by decide) ?_
                  refine zr_iaddN s_1.1 1 hx hb dX7_rowBecomes_167 ?_
                  refine lv_ishr hx hb dX7_rowBecomes_168 ?_
                  refine lv_iconst (v := 1) hx hb dX7_rowBecomes_169 (by decide) ?_
                  refine lv_iand hx hb dX7_rowBecomes_170 ?_
                  refine lv_iadd hx hb dX7_rowBecomes_171 ?_
                  refine lv_istore (lv' := [(10, .int ((((above >>> ((nI s_1.1) &&& 31)) &&& 1) + ((undr >>> ((nI s_1.1) &&& 31)) &&& 1)) + ((row >>> ((nI (s_1.1 + 1)) &&& 31)) &&& 1))), (9, .int (nI s_1.1)), (8, .int s_1.2), (7, .int (mf_rowOf Wd (m_at 2) y)), (6, .int (mf_rowOf Wd (m_at 4) y)), (5, .int (nI Wd)), (0, .ref (ad 0)), (1, .int above), (2, .int row), (3, .int undr)]) hx hb dX7_rowBecomes_172 hl (by decide) rfl (fun ls hl => ?_)
                  refine lv_goto (tgt := 196) hx hb dX7_rowBecomes_174 (by decide) ?_
                  refine lv_iload hx hb dX7_rowBecomes_196 (lv_at hl 2 rfl) ?_
                  refine lv_aload_n hx hb dX7_rowBecomes_198 rfl (lv_at hl 6 rfl) ?_
                  refine va_get (D := G.1) (ci := 7) (v := .ref (ad 1)) (C := RX7) (T := TX7) (N := 39) hx hb hts in_X7 hown hK.1 hP 0 rfl rfl 0 (Nat.le_of_ble_eq_true rfl) (hts _ q1467) (fun _ h => h) rfl dX7_rowBecomes_199 ?_
                  refine lv_bipush (v := 12) hx hb dX7_rowBecomes_202 (by decide) ?_
                  refine lv_iconst (v := 2) hx hb dX7_rowBecomes_204 (by decide) ?_
                  refine lv_aload_n hx hb dX7_rowBecomes_205 rfl (lv_at hl 6 rfl) ?_
                  refine va_get (D := G.1) (ci := 7) (v := .ref (ad 1)) (C := RX7) (T := TX7) (N := 39) hx hb hts in_X7 hown hK.1 hP 0 rfl rfl 0 (Nat.le_of_ble_eq_true rfl) (hts _ q1467) (fun _ h => h) rfl dX7_rowBecomes_206 ?_
                  refine lv_bipush (v := 10) hx hb dX7_rowBecomes_209 (by decide) ?_
                  refine zr_iald 10 (v := m_at 10) hx hb hK hP 1 rfl rfl (Nat.le_of_ble_eq_true rfl) rfl (by decide) rfl dX7_rowBecomes_211 ?_
                  refine zr_val (congrArg Value.int (z_nn hq0)) ?_
                  refine W.eq (g2 := F0 m 212 ls [.int (nI ((m_at 10).toNatClampNeg)), .int 2, .int 12, .ref (ad 1), .int s_1.2]) rfl ?_
                  refine zr_imulN 2 ((m_at 10).toNatClampNeg) hx hb dX7_rowBecomes_212 ?_
                  refine zr_iaddN 12 (2 * ((m_at 10).toNatClampNeg)) hx hb dX7_rowBecomes_213 ?_
                  refine lv_iload_n hx hb dX7_rowBecomes_214 rfl (lv_at hl 8 rfl) ?_
                  refine lv_iload hx hb dX7_rowBecomes_215 (lv_at hl 1 rfl) ?_
                  refine lv_ishr hx hb dX7_rowBecomes_217 ?_
                  refine lv_iconst (v := 1) hx hb dX7_rowBecomes_218 (by decide) ?_
                  refine lv_iand hx hb dX7_rowBecomes_219 ?_
                  have hb1 : (((row >>> ((nI s_1.1) &&& 31)) &&& 1)).toNatClampNeg ≤ 1 := z_b1le _
                  refine zr_val (congrArg Value.int (z_b1 _)) ?_
                  refine W.eq (g2 := F0 m 220 ls [.int (nI (((row >>> ((nI s_1.1) &&& 31)) &&& 1).toNatClampNeg)), .int (nI (12 + (2 * ((m_at 10).toNatClampNeg)))), .ref (ad 1), .int s_1.2]) rfl ?_
                  refine zr_iaddN (12 + (2 * ((m_at 10).toNatClampNeg))) (((row >>> ((nI s_1.1) &&& 31)) &&& 1).toNatClampNeg) hx hb dX7_rowBecomes_220 ?_
                  refine zr_val (v' := .int (nI (12 + (2 * ((m_at 10).toNatClampNeg)) + (((row >>> ((nI s_1.1) &&& 31)) &&& 1).toNatClampNeg)))) (by rfl) ?_
                  refine zr_iald (12 + (2 * ((m_at 10).toNatClampNeg)) + (((row >>> ((nI s_1.1) &&& 31)) &&& 1).toNatClampNeg)) (v := m_at (12 + (2 * ((m_at 10).toNatClampNeg)) + (((row >>> ((nI s_1.1) &&& 31)) &&& 1).toNatClampNeg))) hx hb hK hP 1 rfl rfl (Nat.le_of_ble_eq_true rfl) rfl (by omega) rfl dX7_rowBecomes_221 ?_
                  refine lv_iload hx hb dX7_rowBecomes_222 (lv_at hl 0 rfl) ?_
                  refine lv_ishr hx hb dX7_rowBecomes_224 ?_
                  refine lv_iconst (v := 1) hx hb dX7_rowBecomes_225 (by decide) ?_
                  refine lv_iand hx hb dX7_rowBecomes_226 ?_
                  refine lv_iload hx hb dX7_rowBecomes_227 (lv_at hl 1 rfl) ?_
                  refine lv_ishl hx hb dX7_rowBecomes_229 ?_
                  refine lv_ior hx hb dX7_rowBecomes_230 ?_
                  obtain ⟨v_8, hv_8⟩ : ∃ z : Int32, s_1.2 ||| ((((m_at (12 + (2 * ((m_at 10).toNatClampNeg)) + (((row >>> ((nI s_1.1) &&& 31)) &&& 1).toNatClampNeg))) >>> (((((above >>> ((nI s_1.1) &&& 31)) &&& 1) + ((undr >>> ((nI s_1.1) &&& 31)) &&& 1)) + ((row >>> ((nI (s_1.1 + 1)) &&& 31)) &&& 1)) &&& 31)) &&& 1) <<< ((nI s_1.1) &&& 31)) = z := ⟨_, rfl⟩
                  refine zr_val (congrArg Value.int hv_8) ?_
                  refine lv_istore (lv' := [(8, .int v_8), (10, .int ((((above >>> ((nI s_1.1) &&& 31)) &&& 1) + ((undr >>> ((nI s_1.1) &&& 31)) &&& 1)) + ((row >>> ((nI (s_1.1 + 1)) &&& 31)) &&& 1))), (9, .int (nI s_1.1)), (7, .int (mf_rowOf Wd (m_at 2) y)), (6, .int (mf_rowOf Wd (m_at 4) y)), (5, .int (nI Wd)), (0, .ref (ad 0)), (1, .int above), (2, .int row), (3, .int undr)]) hx hb dX7_rowBecomes_231 hl (by decide) rfl (fun ls hl => ?_)
                  refine lv_iinc (v := nI (s_1.1 + 1)) (lv' := [(9, .int (nI (s_1.1 + 1))), (8, .int v_8), (10, .int ((((above >>> ((nI s_1.1) &&& 31)) &&& 1) + ((undr >>> ((nI s_1.1) &&& 31)) &&& 1)) + ((row >>> ((nI (s_1.1 + 1)) &&& 31)) &&& 1))), (7, .int (mf_rowOf Wd (m_at 2) y)), (6, .int (mf_rowOf Wd (m_at 4) y)), (5, .int (nI Wd)), (0, .ref (ad 0)), (1, .int above), (2, .int row), (3, .int undr)]) hx hb dX7_rowBecomes_233 hl (k := 2) rfl (nI_add s_1.1 1) (by decide) rfl (fun ls hl => ?_)
                  refine lv_goto (tgt := 56) hx hb dX7_rowBecomes_236 (by decide) ?_
                  exact ih_1 (s_1.1 + 1, v_8) (by omega) ((zw_l (by rw [mf_rowBecomes_B56, if_neg c_2, if_neg c_3, if_neg c_4, if_pos c_5, if_neg c_6, if_neg c_7, zlet_eq hv_8])).symm.trans hR_1) (by omega) ls (lv_sub hl [0, 1, 3, 4, 5, 6, 7, 8, 9] rfl)
              · refine lv_iload hx hb dX7_rowBecomes_139 (lv_at hl 0 rfl) ?_
                refine lv_iload_n hx hb dX7_rowBecomes_141 rfl (lv_at hl 8 rfl) ?_
                refine lv_iload hx hb dX7_rowBecomes_142 (lv_at hl 5 rfl) ?_
                refine lv_iconst (v := 1) hx hb dX7_rowBecomes_144 (by decide) ?_
                refine zr_isubN Wd 1 (by omega) hx hb dX7_rowBecomes_145 ?_
                refine lv_ishr hx hb dX7_rowBecomes_146 ?_
                refine lv_iconst (v := 1) hx hb dX7_rowBecomes_147 (by decide) ?_
                refine lv_iand hx hb dX7_rowBecomes_148 ?_
                refine lv_iadd hx hb dX7_rowBecomes_149 ?_
                refine lv_istore (lv' := [(10, .int ((((above >>> ((nI s_1.1) &&& 31)) &&& 1) + ((undr >>> ((nI s_1.1) &&& 31)) &&& 1)) + ((row >>> ((nI (Wd - 1)) &&& 31)) &&& 1))), (9, .int (nI s_1.1)), (8, .int s_1.2), (7, .int (mf_rowOf Wd (m_at 2) y)), (6, .int (mf_rowOf Wd (m_at 4) y)), (5, .int (nI Wd)), (0, .ref (ad 0)), (1, .int above), (2, .int row), (3, .int undr)]) hx hb dX7_rowBecomes_150 hl (by decide) rfl (fun ls hl => ?_)
                refine lv_iload hx hb dX7_rowBecomes_152 (lv_at hl 1 rfl) ?_
                refine lv_iconst (v := 1) hx hb dX7_rowBecomes_154 (by decide) ?_
                refine zr_iaddN s_1.1 1 hx hb dX7_rowBecomes_155 ?_
                refine lv_iload hx hb dX7_rowBecomes_156 (lv_at hl 5 rfl) ?_
                refine zr_ge (s_1.1 + 1) Wd (by omega) (by omega) (tgt := 177) hx hb dX7_rowBecomes_158 (by decide) (fun c_9 => ?_) (fun c_9 => ?_)
                · refine lv_aload_n hx hb dX7_rowBecomes_177 rfl (lv_at hl 6 rfl) ?_
                  refine va_get (D := G.1) (ci := 7) (v := .ref (ad 1)) (C := RX7) (T := TX7) (N := 39) hx hb hts in_X7 hown hK.1 hP 0 rfl rfl 0 (Nat.le_of_ble_eq_true rfl) (hts _ q1467) (fun _ h => h) rfl dX7_rowBecomes_178 ?_
                  refine lv_bipush (v := 9) hx hb dX7_rowBecomes_181 (by decide) ?_
                  refine zr_iald 9 (v := m_at 9) hx hb hK hP 1 rfl rfl (Nat.le_of_ble_eq_true rfl) rfl (by decide) rfl dX7_rowBecomes_183 ?_
                  refine lv_iconst (v := 1) hx hb dX7_rowBecomes_184 (by decide) ?_
                  refine lv_icmp_ne (tgt := 196) hx hb dX7_rowBecomes_185 (by decide) (fun z => absurd c_6 z) (fun _ => ?_)
                  refine lv_iload hx hb dX7_rowBecomes_188 (lv_at hl 0 rfl) ?_
                  refine lv_iload_n hx hb dX7_rowBecomes_190 rfl (lv_at hl 8 rfl) ?_
                  refine lv_iconst (v := 1) hx hb dX7_rowBecomes_191 (by decide) ?_
                  refine lv_iand hx hb dX7_rowBecomes_192 ?_
                  refine lv_iadd hx hb dX7_rowBecomes_193 ?_
                  refine lv_istore (lv' := [(10, .int (((((above >>> ((nI s_1.1) &&& 31)) &&& 1) + ((undr >>> ((nI s_1.1) &&& 31)) &&& 1)) + ((row >>> ((nI (Wd - 1)) &&& 31)) &&& 1)) + (row &&& 1))), (9, .int (nI s_1.1)), (8, .int s_1.2), (7, .int (mf_rowOf Wd (m_at 2) y)), (6, .int (mf_rowOf Wd (m_at 4) y)), (5, .int (nI Wd)), (0, .ref (ad 0)), (1, .int above), (2, .int row), (3, .int undr)]) hx hb dX7_rowBecomes_194 hl (by decide) rfl (fun ls hl => ?_)
                  refine lv_iload hx hb dX7_rowBecomes_196 (lv_at hl 2 rfl) ?_
                  refine lv_aload_n hx hb dX7_rowBecomes_198 rfl (lv_at hl 6 rfl) ?_
                  refine va_get (D := G.1) (ci := 7) (v := .ref (ad 1)) (C := RX7) (T := TX7) (N := 39) hx hb hts in_X7 hown hK.1 hP 0 rfl rfl 0 (Nat.le_of_ble_eq_true rfl) (hts _ q1467) (fun _ h => h) rfl dX7_rowBecomes_199 ?_
                  refine lv_bipush (v := 12) hx hb dX7_rowBecomes_202 (by decide) ?_
                  refine lv_iconst (v := 2) hx hb dX7_rowBecomes_204 (by decide) ?_
                  refine lv_aload_n hx hb dX7_rowBecomes_205 rfl (lv_at hl 6 rfl) ?_
                  refine va_get (D := G.1) (ci := 7) (v := .ref (ad 1)) (C := RX7) (T := TX7) (N := 39) hx hb hts in_X7 hown hK.1 hP 0 rfl rfl 0 (Nat.le_of_ble_eq_true rfl) (hts _ q1467) (fun _ h => h) rfl dX7_rowBecomes_206 ?_
                  refine lv_bipush (v := 10) hx hb dX7_rowBecomes_209 (by decide) ?_
                  refine zr_iald 10 (v := m_at 10) hx hb hK hP 1 rfl rfl (Nat.le_of_ble_eq_true rfl) rfl (by decide) rfl dX7_rowBecomes_211 ?_
                  refine zr_val (congrArg Value.int (z_nn hq0)) ?_
                  refine W.eq (g2 := F0 m 212 ls [.int (nI ((m_at 10).toNatClampNeg)), .int 2, .int 12, .ref (ad 1), .int s_1.2]) rfl ?_
                  refine zr_imulN 2 ((m_at 10).toNatClampNeg) hx hb dX7_rowBecomes_212 ?_
                  refine zr_iaddN 12 (2 * ((m_at 10).toNatClampNeg)) hx hb dX7_rowBecomes_213 ?_
                  refine lv_iload_n hx hb dX7_rowBecomes_214 rfl (lv_at hl 8 rfl) ?_
                  refine lv_iload hx hb dX7_rowBecomes_215 (lv_at hl 1 rfl) ?_
                  refine lv_ishr hx hb dX7_rowBecomes_217 ?_
                  refine lv_iconst (v := 1) hx hb dX7_rowBecomes_218 (by decide) ?_
                  refine lv_iand hx hb dX7_rowBecomes_219 ?_
                  have hb1 : (((row >>> ((nI s_1.1) &&& 31)) &&& 1)).toNatClampNeg ≤ 1 := z_b1le _
                  refine zr_val (congrArg Value.int (z_b1 _)) ?_
                  refine W.eq (g2 := F0 m 220 ls [.int (nI (((row >>> ((nI s_1.1) &&& 31)) &&& 1).toNatClampNeg)), .int (nI (12 + (2 * ((m_at 10).toNatClampNeg)))), .ref (ad 1), .int s_1.2]) rfl ?_
                  refine zr_iaddN (12 + (2 * ((m_at 10).toNatClampNeg))) (((row >>> ((nI s_1.1) &&& 31)) &&& 1).toNatClampNeg) hx hb dX7_rowBecomes_220 ?_
                  refine zr_val (v' := .int (nI (12 + (2 * ((m_at 10).toNatClampNeg)) + (((row >>> ((nI s_1.1) &&& 31)) &&& 1).toNatClampNeg)))) (by rfl) ?_
                  refine zr_iald (12 + (2 * ((m_at 10).toNatClampNeg)) + (((row >>> ((nI s_1.1) &&& 31)) &&& 1).toNatClampNeg)) (v := m_at (12 + (2 * ((m_at 10).toNatClampNeg)) + (((row >>> ((nI s_1.1) &&& 31)) &&& 1).toNatClampNeg))) hx hb hK hP 1 rfl rfl (Nat.le_of_ble_eq_true rfl) rfl (by omega) rfl dX7_rowBecomes_221 ?_
                  refine lv_iload hx hb dX7_rowBecomes_222 (lv_at hl 0 rfl) ?_
                  refine lv_ishr hx hb dX7_rowBecomes_224 ?_
                  refine lv_iconst (v := 1) hx hb dX7_rowBecomes_225 (by decide) ?_
                  refine lv_iand hx hb dX7_rowBecomes_226 ?_
                  refine lv_iload hx hb dX7_rowBecomes_227 (lv_at hl 1 rfl) ?_
                  refine lv_ishl hx hb dX7_rowBecomes_229 ?_
                  refine lv_ior hx hb dX7_rowBecomes_230 ?_
                  obtain ⟨v_10, hv_10⟩ : ∃ z : Int32, s_1.2 ||| ((((m_at (12 + (2 * ((m_at 10).toNatClampNeg)) + (((row >>> ((nI s_1.1) &&& 31)) &&& 1).toNatClampNeg))) >>> ((((((above >>> ((nI s_1.1) &&& 31)) &&& 1) + ((undr >>> ((nI s_1.1) &&& 31)) &&& 1)) + ((row >>> ((nI (Wd - 1)) &&& 31)) &&& 1)) + (row &&& 1)) &&& 31)) &&& 1) <<< ((nI s_1.1) &&& 31)) = z := ⟨_, rfl⟩
                  refine zr_val (congrArg Value.int hv_10) ?_
                  refine lv_istore (lv' := [(8, .int v_10), (10, .int (((((above >>> ((nI s_1.1) &&& 31)) &&& 1) + ((undr >>> ((nI s_1.1) &&& 31)) &&& 1)) + ((row >>> ((nI (Wd - 1)) &&& 31)) &&& 1)) + (row &&& 1))), (9, .int (nI s_1.1)), (7, .int (mf_rowOf Wd (m_at 2) y)), (6, .int (mf_rowOf Wd (m_at 4) y)), (5, .int (nI Wd)), (0, .ref (ad 0)), (1, .int above), (2, .int row), (3, .int undr)]) hx hb dX7_rowBecomes_231 hl (by decide) rfl (fun ls hl => ?_)
                  refine lv_iinc (v := nI (s_1.1 + 1)) (lv' := [(9, .int (nI (s_1.1 + 1))), (8, .int v_10), (10, .int (((((above >>> ((nI s_1.1) &&& 31)) &&& 1) + ((undr >>> ((nI s_1.1) &&& 31)) &&& 1)) + ((row >>> ((nI (Wd - 1)) &&& 31)) &&& 1)) + (row &&& 1))), (7, .int (mf_rowOf Wd (m_at 2) y)), (6, .int (mf_rowOf Wd (m_at 4) y)), (5, .int (nI Wd)), (0, .ref (ad 0)), (1, .int above), (2, .int row), (3, .int undr)]) hx hb dX7_rowBecomes_233 hl (k := 2) rfl (nI_add s_1.1 1) (by decide) rfl (fun ls hl => ?_)
                  refine lv_goto (tgt := 56) hx hb dX7_rowBecomes_236 (by decide) ?_
                  exact ih_1 (s_1.1 + 1, v_10) (by omega) ((zw_l (by rw [mf_rowBecomes_B56, if_neg c_2, if_neg c_3, if_neg c_4, if_pos c_5, if_pos c_6, if_pos c_9, zlet_eq hv_10])).symm.trans hR_1) (by omega) ls (lv_sub hl [0, 1, 3, 4, 5, 6, 7, 8, 9] rfl)
                · refine lv_iload hx hb dX7_rowBecomes_161 (lv_at hl 0 rfl) ?_
                  refine lv_iload_n hx hb dX7_rowBecomes_163 rfl (lv_at hl 8 rfl) ?_
                  refine lv_iload hx hb dX7_rowBecomes_164 (lv_at hl 1 rfl) ?_
                  refine lv_iconst (v := 1) hx hb dX7_rowBecomes_166 (by decide) ?_
                  refine zr_iaddN s_1.1 1 hx hb dX7_rowBecomes_167 ?_
                  refine lv_ishr hx hb dX7_rowBecomes_168 ?_
                  refine lv_iconst (v := 1) hx hb dX7_rowBecomes_169 (by decide) ?_
                  refine lv_iand hx hb dX7_rowBecomes_170 ?_
                  refine lv_iadd hx hb dX7_rowBecomes_171 ?_
                  refine lv_istore (lv' := [(10, .int (((((above >>> ((nI s_1.1) &&& 31)) &&& 1) + ((undr >>> ((nI s_1.1) &&& 31)) &&& 1)) + ((row >>> ((nI (Wd - 1)) &&& 31)) &&& 1)) + ((row >>> ((nI (s_1.1 + 1)) &&& 31)) &&& 1))), (9, .int (nI s_1.1)), (8, .int s_1.2), (7, .int (mf_rowOf Wd (m_at 2) y)), (6, .int (mf_rowOf Wd (m_at 4) y)), (5, .int (nI Wd)), (0, .ref (ad 0)), (1, .int above), (2, .int row), (3, .int undr)]) hx hb dX7_rowBecomes_172 hl (by decide) rfl (fun ls hl => ?_)
                  refine lv_goto (tgt := 196) hx hb dX7_rowBecomes_174 (by decide) ?_
                  refine lv_iload hx hb dX7_rowBecomes_196 (lv_at hl 2 rfl) ?_
                  refine lv_aload_n hx hb dX7_rowBecomes_198 rfl (lv_at hl 6 rfl) ?_
                  refine va_get (D := G.1) (ci := 7) (v := .ref (ad 1)) (C := RX7) (T := TX7) (N := 39) hx hb hts in_X7 hown hK.1 hP 0 rfl rfl 0 (Nat.le_of_ble_eq_true rfl) (hts _ q1467) (fun _ h => h) rfl dX7_rowBecomes_199 ?_
                  refine lv_bipush (v := 12) hx hb dX7_rowBecomes_202 (by decide) ?_
                  refine lv_iconst (v := 2) hx hb dX7_rowBecomes_204 (by decide) ?_
                  refine lv_aload_n hx hb dX7_rowBecomes_205 rfl (lv_at hl 6 rfl) ?_
                  refine va_get (D := G.1) (ci := 7) (v := .ref (ad 1)) (C := RX7) (T := TX7) (N := 39) hx hb hts in_X7 hown hK.1 hP 0 rfl rfl 0 (Nat.le_of_ble_eq_true rfl) (hts _ q1467) (fun _ h => h) rfl dX7_rowBecomes_206 ?_
                  refine lv_bipush (v := 10) hx hb dX7_rowBecomes_209 (by decide) ?_
                  refine zr_iald 10 (v := m_at 10) hx hb hK hP 1 rfl rfl (Nat.le_of_ble_eq_true rfl) rfl (by decide) rfl dX7_rowBecomes_211 ?_
                  refine zr_val (congrArg Value.int (z_nn hq0)) ?_
                  refine W.eq (g2 := F0 m 212 ls [.int (nI ((m_at 10).toNatClampNeg)), .int 2, .int 12, .ref (ad 1), .int s_1.2]) rfl ?_
                  refine zr_imulN 2 ((m_at 10).toNatClampNeg) hx hb dX7_rowBecomes_212 ?_
                  refine zr_iaddN 12 (2 * ((m_at 10).toNatClampNeg)) hx hb dX7_rowBecomes_213 ?_
                  refine lv_iload_n hx hb dX7_rowBecomes_214 rfl (lv_at hl 8 rfl) ?_
                  refine lv_iload hx hb dX7_rowBecomes_215 (lv_at hl 1 rfl) ?_
                  refine lv_ishr hx hb dX7_rowBecomes_217 ?_
                  refine lv_iconst (v := 1) hx hb dX7_rowBecomes_218 (by decide) ?_
                  refine lv_iand hx hb dX7_rowBecomes_219 ?_
                  have hb1 : (((row >>> ((nI s_1.1) &&& 31)) &&& 1)).toNatClampNeg ≤ 1 := z_b1le _
                  refine zr_val (congrArg Value.int (z_b1 _)) ?_
                  refine W.eq (g2 := F0 m 220 ls [.int (nI (((row >>> ((nI s_1.1) &&& 31)) &&& 1).toNatClampNeg)), .int (nI (12 + (2 * ((m_at 10).toNatClampNeg)))), .ref (ad 1), .int s_1.2]) rfl ?_
                  refine zr_iaddN (12 + (2 * ((m_at 10).toNatClampNeg))) (((row >>> ((nI s_1.1) &&& 31)) &&& 1).toNatClampNeg) hx hb dX7_rowBecomes_220 ?_
                  refine zr_val (v' := .int (nI (12 + (2 * ((m_at 10).toNatClampNeg)) + (((row >>> ((nI s_1.1) &&& 31)) &&& 1).toNatClampNeg)))) (by rfl) ?_
                  refine zr_iald (12 + (2 * ((m_at 10).toNatClampNeg)) + (((row >>> ((nI s_1.1) &&& 31)) &&& 1).toNatClampNeg)) (v := m_at (12 + (2 * ((m_at 10).toNatClampNeg)) + (((row >>> ((nI s_1.1) &&& 31)) &&& 1).toNatClampNeg))) hx hb hK hP 1 rfl rfl (Nat.le_of_ble_eq_true rfl) rfl (by omega) rfl dX7_rowBecomes_221 ?_
                  refine lv_iload hx hb dX7_rowBecomes_222 (lv_at hl 0 rfl) ?_
                  refine lv_ishr hx hb dX7_rowBecomes_224 ?_
                  refine lv_iconst (v := 1) hx hb dX7_rowBecomes_225 (by decide) ?_
                  refine lv_iand hx hb dX7_rowBecomes_226 ?_
                  refine lv_iload hx hb dX7_rowBecomes_227 (lv_at hl 1 rfl) ?_
                  refine lv_ishl hx hb dX7_rowBecomes_229 ?_
                  refine lv_ior hx hb dX7_rowBecomes_230 ?_
                  obtain ⟨v_11, hv_11⟩ : ∃ z : Int32, s_1.2 ||| ((((m_at (12 + (2 * ((m_at 10).toNatClampNeg)) + (((row >>> ((nI s_1.1) &&& 31)) &&& 1).toNatClampNeg))) >>> ((((((above >>> ((nI s_1.1) &&& 31)) &&& 1) + ((undr >>> ((nI s_1.1) &&& 31)) &&& 1)) + ((row >>> ((nI (Wd - 1)) &&& 31)) &&& 1)) + ((row >>> ((nI (s_1.1 + 1)) &&& 31)) &&& 1)) &&& 31)) &&& 1) <<< ((nI s_1.1) &&& 31)) = z := ⟨_, rfl⟩
                  refine zr_val (congrArg Value.int hv_11) ?_
                  refine lv_istore (lv' := [(8, .int v_11), (10, .int (((((above >>> ((nI s_1.1) &&& 31)) &&& 1) + ((undr >>> ((nI s_1.1) &&& 31)) &&& 1)) + ((row >>> ((nI (Wd - 1)) &&& 31)) &&& 1)) + ((row >>> ((nI (s_1.1 + 1)) &&& 31)) &&& 1))), (9, .int (nI s_1.1)), (7, .int (mf_rowOf Wd (m_at 2) y)), (6, .int (mf_rowOf Wd (m_at 4) y)), (5, .int (nI Wd)), (0, .ref (ad 0)), (1, .int above), (2, .int row), (3, .int undr)]) hx hb dX7_rowBecomes_231 hl (by decide) rfl (fun ls hl => ?_)
                  refine lv_iinc (v := nI (s_1.1 + 1)) (lv' := [(9, .int (nI (s_1.1 + 1))), (8, .int v_11), (10, .int (((((above >>> ((nI s_1.1) &&& 31)) &&& 1) + ((undr >>> ((nI s_1.1) &&& 31)) &&& 1)) + ((row >>> ((nI (Wd - 1)) &&& 31)) &&& 1)) + ((row >>> ((nI (s_1.1 + 1)) &&& 31)) &&& 1))), (7, .int (mf_rowOf Wd (m_at 2) y)), (6, .int (mf_rowOf Wd (m_at 4) y)), (5, .int (nI Wd)), (0, .ref (ad 0)), (1, .int above), (2, .int row), (3, .int undr)]) hx hb dX7_rowBecomes_233 hl (k := 2) rfl (nI_add s_1.1 1) (by decide) rfl (fun ls hl => ?_)
                  refine lv_goto (tgt := 56) hx hb dX7_rowBecomes_236 (by decide) ?_
                  exact ih_1 (s_1.1 + 1, v_11) (by omega) ((zw_l (by rw [mf_rowBecomes_B56, if_neg c_2, if_neg c_3, if_neg c_4, if_pos c_5, if_pos c_6, if_neg c_9, zlet_eq hv_11])).symm.trans hR_1) (by omega) ls (lv_sub hl [0, 1, 3, 4, 5, 6, 7, 8, 9] rfl)
            · refine lv_iload hx hb dX7_rowBecomes_112 (lv_at hl 0 rfl) ?_
              refine lv_iload_n hx hb dX7_rowBecomes_114 rfl (lv_at hl 8 rfl) ?_
              refine lv_iload hx hb dX7_rowBecomes_115 (lv_at hl 1 rfl) ?_
              refine lv_iconst (v := 1) hx hb dX7_rowBecomes_117 (by decide) ?_
              refine zr_isubN s_1.1 1 (by omega) hx hb dX7_rowBecomes_118 ?_
              refine lv_ishr hx hb dX7_rowBecomes_119 ?_
              refine lv_iconst (v := 1) hx hb dX7_rowBecomes_120 (by decide) ?_
              refine lv_iand hx hb dX7_rowBecomes_121 ?_
              refine lv_iadd hx hb dX7_rowBecomes_122 ?_
              refine lv_istore (lv' := [(10, .int ((((above >>> ((nI s_1.1) &&& 31)) &&& 1) + ((undr >>> ((nI s_1.1) &&& 31)) &&& 1)) + ((row >>> ((nI (s_1.1 - 1)) &&& 31)) &&& 1))), (9, .int (nI s_1.1)), (8, .int s_1.2), (7, .int (mf_rowOf Wd (m_at 2) y)), (6, .int (mf_rowOf Wd (m_at 4) y)), (5, .int (nI Wd)), (0, .ref (ad 0)), (1, .int above), (2, .int row), (3, .int undr)]) hx hb dX7_rowBecomes_123 hl (by decide) rfl (fun ls hl => ?_)
              refine lv_goto (tgt := 152) hx hb dX7_rowBecomes_125 (by decide) ?_
              refine lv_iload hx hb dX7_rowBecomes_152 (lv_at hl 1 rfl) ?_
              refine lv_iconst (v := 1) hx hb dX7_rowBecomes_154 (by decide) ?_
              refine zr_iaddN s_1.1 1 hx hb dX7_rowBecomes_155 ?_
              refine lv_iload hx hb dX7_rowBecomes_156 (lv_at hl 5 rfl) ?_
              refine zr_ge (s_1.1 + 1) Wd (by omega) (by omega) (tgt := 177) hx hb dX7_rowBecomes_158 (by decide) (fun c_12 => ?_) (fun c_12 => ?_)
              · refine lv_aload_n hx hb dX7_rowBecomes_177 rfl (lv_at hl 6 rfl) ?_
                refine va_get (D := G.1) (ci := 7) (v := .ref (ad 1)) (C := RX7) (T := TX7) (N := 39) hx hb hts in_X7 hown hK.1 hP 0 rfl rfl 0 (Nat.le_of_ble_eq_true rfl) (hts _ q1467) (fun _ h => h) rfl dX7_rowBecomes_178 ?_
                refine lv_bipush (v := 9) hx hb dX7_rowBecomes_181 (by decide) ?_
                refine zr_iald 9 (v := m_at 9) hx hb hK hP 1 rfl rfl (Nat.le_of_ble_eq_true rfl) rfl (by decide) rfl dX7_rowBecomes_183 ?_
                refine lv_iconst (v := 1) hx hb dX7_rowBecomes_184 (by decide) ?_
                refine lv_icmp_ne (tgt := 196) hx hb dX7_rowBecomes_185 (by decide) (fun c_13 => ?_) (fun c_13 => ?_)
                · refine lv_iload hx hb dX7_rowBecomes_196 (lv_at hl 2 rfl) ?_
                  refine lv_aload_n hx hb dX7_rowBecomes_198 rfl (lv_at hl 6 rfl) ?_
                  refine va_get (D := G.1) (ci := 7) (v := .ref (ad 1)) (C := RX7) (T := TX7) (N := 39) hx hb hts in_X7 hown hK.1 hP 0 rfl rfl 0 (Nat.le_of_ble_eq_true rfl) (hts _ q1467) (fun _ h => h) rfl dX7_rowBecomes_199 ?_
                  refine lv_bipush (v := 12) hx hb dX7_rowBecomes_202 (by decide) ?_
                  refine lv_iconst (v := 2) hx hb dX7_rowBecomes_204 (by decide) ?_
                  refine lv_aload_n hx hb dX7_rowBecomes_205 rfl (lv_at hl 6 rfl) ?_
                  refine va_get (D := G.1) (ci := 7) (v := .ref (ad 1)) (C := RX7) (T := TX7) (N := 39) hx hb hts in_X7 hown hK.1 hP 0 rfl rfl 0 (Nat.le_of_ble_eq_true rfl) (hts _ q1467) (fun _ h => h) rfl dX7_rowBecomes_206 ?_
                  refine lv_bipush (v := 10) hx hb dX7_rowBecomes_209 (by decide) ?_
                  refine zr_iald 10 (v := m_at 10) hx hb hK hP 1 rfl rfl (Nat.le_of_ble_eq_true rfl) rfl (by decide) rfl dX7_rowBecomes_211 ?_
                  refine zr_val (congrArg Value.int (z_nn hq0)) ?_
                  refine W.eq (g2 := F0 m 212 ls [.int (nI ((m_at 10).toNatClampNeg)), .int 2, .int 12, .ref (ad 1), .int s_1.2]) rfl ?_
                  refine zr_imulN 2 ((m_at 10).toNatClampNeg) hx hb dX7_rowBecomes_212 ?_
                  refine zr_iaddN 12 (2 * ((m_at 10).toNatClampNeg)) hx hb dX7_rowBecomes_213 ?_
                  refine lv_iload_n hx hb dX7_rowBecomes_214 rfl (lv_at hl 8 rfl) ?_
                  refine lv_iload hx hb dX7_rowBecomes_215 (lv_at hl 1 rfl) ?_
                  refine lv_ishr hx hb dX7_rowBecomes_217 ?_
                  refine lv_iconst (v := 1) hx hb dX7_rowBecomes_218 (by decide) ?_
                  refine lv_iand hx hb dX7_rowBecomes_219 ?_
                  have hb1 : (((row >>> ((nI s_1.1) &&& 31)) &&& 1)).toNatClampNeg ≤ 1 := z_b1le _
                  refine zr_val (congrArg Value.int (z_b1 _)) ?_
                  refine W.eq (g2 := F0 m 220 ls [.int (nI (((row >>> ((nI s_1.1) &&& 31)) &&& 1).toNatClampNeg)), .int (nI (12 + (2 * ((m_at 10).toNatClampNeg)))), .ref (ad 1), .int s_1.2]) rfl ?_
                  refine zr_iaddN (12 + (2 * ((m_at 10).toNatClampNeg))) (((row >>> ((nI s_1.1) &&& 31)) &&& 1).toNatClampNeg) hx hb dX7_rowBecomes_220 ?_
                  refine zr_val (v' := .int (nI (12 + (2 * ((m_at 10).toNatClampNeg)) + (((row >>> ((nI s_1.1) &&& 31)) &&& 1).toNatClampNeg)))) (by rfl) ?_
                  refine zr_iald (12 + (2 * ((m_at 10).toNatClampNeg)) + (((row >>> ((nI s_1.1) &&& 31)) &&& 1).toNatClampNeg)) (v := m_at (12 + (2 * ((m_at 10).toNatClampNeg)) + (((row >>> ((nI s_1.1) &&& 31)) &&& 1).toNatClampNeg))) hx hb hK hP 1 rfl rfl (Nat.le_of_ble_eq_true rfl) rfl (by omega) rfl dX7_rowBecomes_221 ?_
                  refine lv_iload hx hb dX7_rowBecomes_222 (lv_at hl 0 rfl) ?_
                  refine lv_ishr hx hb dX7_rowBecomes_224 ?_
                  refine lv_iconst (v := 1) hx hb dX7_rowBecomes_225 (by decide) ?_
                  refine lv_iand hx hb dX7_rowBecomes_226 ?_
                  refine lv_iload hx hb dX7_rowBecomes_227 (lv_at hl 1 rfl) ?_
                  refine lv_ishl hx hb dX7_rowBecomes_229 ?_
                  refine lv_ior hx hb dX7_rowBecomes_230 ?_
                  obtain ⟨v_14, hv_14⟩ : ∃ z : Int32, s_1.2 ||| ((((m_at (12 + (2 * ((m_at 10).toNatClampNeg)) + (((row >>> ((nI s_1.1) &&& 31)) &&& 1).toNatClampNeg))) >>> (((((above >>> ((nI s_1.1) &&& 31)) &&& 1) + ((undr >>> ((nI s_1.1) &&& 31)) &&& 1)) + ((row >>> ((nI (s_1.1 - 1)) &&& 31)) &&& 1)) &&& 31)) &&& 1) <<< ((nI s_1.1) &&& 31)) = z := ⟨_, rfl⟩
                  refine zr_val (congrArg Value.int hv_14) ?_
                  refine lv_istore (lv' := [(8, .int v_14), (10, .int ((((above >>> ((nI s_1.1) &&& 31)) &&& 1) + ((undr >>> ((nI s_1.1) &&& 31)) &&& 1)) + ((row >>> ((nI (s_1.1 - 1)) &&& 31)) &&& 1))), (9, .int (nI s_1.1)), (7, .int (mf_rowOf Wd (m_at 2) y)), (6, .int (mf_rowOf Wd (m_at 4) y)), (5, .int (nI Wd)), (0, .ref (ad 0)), (1, .int above), (2, .int row), (3, .int undr)]) hx hb dX7_rowBecomes_231 hl (by decide) rfl (fun ls hl => ?_)
                  refine lv_iinc (v := nI (s_1.1 + 1)) (lv' := [(9, .int (nI (s_1.1 + 1))), (8, .int v_14), (10, .int ((((above >>> ((nI s_1.1) &&& 31)) &&& 1) + ((undr >>> ((nI s_1.1) &&& 31)) &&& 1)) + ((row >>> ((nI (s_1.1 - 1)) &&& 31)) &&& 1))), (7, .int (mf_rowOf Wd (m_at 2) y)), (6, .int (mf_rowOf Wd (m_at 4) y)), (5, .int (nI Wd)), (0, .ref (ad 0)), (1, .int above), (2, .int row), (3, .int undr)]) hx hb dX7_rowBecomes_233 hl (k := 2) rfl (nI_add s_1.1 1) (by decide) rfl (fun ls hl => ?_)
                  refine lv_goto (tgt := 56) hx hb dX7_rowBecomes_236 (by decide) ?_
                  exact ih_1 (s_1.1 + 1, v_14) (by omega) ((zw_l (by rw [mf_rowBecomes_B56, if_neg c_2, if_neg c_3, if_neg c_4, if_neg c_5, if_pos c_12, if_neg c_13, zlet_eq hv_14])).symm.trans hR_1) (by omega) ls (lv_sub hl [0, 1, 3, 4, 5, 6, 7, 8, 9] rfl)
                · refine lv_iload hx hb dX7_rowBecomes_188 (lv_at hl 0 rfl) ?_
                  refine lv_iload_n hx hb dX7_rowBecomes_190 rfl (lv_at hl 8 rfl) ?_
                  refine lv_iconst (v := 1) hx hb dX7_rowBecomes_191 (by decide) ?_
                  refine lv_iand hx hb dX7_rowBecomes_192 ?_
                  refine lv_iadd hx hb dX7_rowBecomes_193 ?_
                  refine lv_istore (lv' := [(10, .int (((((above >>> ((nI s_1.1) &&& 31)) &&& 1) + ((undr >>> ((nI s_1.1) &&& 31)) &&& 1)) + ((row >>> ((nI (s_1.1 - 1)) &&& 31)) &&& 1)) + (row &&& 1))), (9, .int (nI s_1.1)), (8, .int s_1.2), (7, .int (mf_rowOf Wd (m_at 2) y)), (6, .int (mf_rowOf Wd (m_at 4) y)), (5, .int (nI Wd)), (0, .ref (ad 0)), (1, .int above), (2, .int row), (3, .int undr)]) hx hb dX7_rowBecomes_194 hl (by decide) rfl (fun ls hl => ?_)
                  refine lv_iload hx hb dX7_rowBecomes_196 (lv_at hl 2 rfl) ?_
                  refine lv_aload_n hx hb dX7_rowBecomes_198 rfl (lv_at hl 6 rfl) ?_
                  refine va_get (D := G.1) (ci := 7) (v := .ref (ad 1)) (C := RX7) (T := TX7) (N := 39) hx hb hts in_X7 hown hK.1 hP 0 rfl rfl 0 (Nat.le_of_ble_eq_true rfl) (hts _ q1467) (fun _ h => h) rfl dX7_rowBecomes_199 ?_
                  refine lv_bipush (v := 12) hx hb dX7_rowBecomes_202 (by decide) ?_
                  refine lv_iconst (v := 2) hx hb dX7_rowBecomes_204 (by decide) ?_
                  refine lv_aload_n hx hb dX7_rowBecomes_205 rfl (lv_at hl 6 rfl) ?_
                  refine va_get (D := G.1) (ci := 7) (v := .ref (ad 1)) (C := RX7) (T := TX7) (N := 39) hx hb hts in_X7 hown hK.1 hP 0 rfl rfl 0 (Nat.le_of_ble_eq_true rfl) (hts _ q1467) (fun _ h => h) rfl dX7_rowBecomes_206 ?_
                  refine lv_bipush (v := 10) hx hb dX7_rowBecomes_209 (by decide) ?_
                  refine zr_iald 10 (v := m_at 10) hx hb hK hP 1 rfl rfl (Nat.le_of_ble_eq_true rfl) rfl (by decide) rfl dX7_rowBecomes_211 ?_
                  refine zr_val (congrArg Value.int (z_nn hq0)) ?_
                  refine W.eq (g2 := F0 m 212 ls [.int (nI ((m_at 10).toNatClampNeg)), .int 2, .int 12, .ref (ad 1), .int s_1.2]) rfl ?_
                  refine zr_imulN 2 ((m_at 10).toNatClampNeg) hx hb dX7_rowBecomes_212 ?_
                  refine zr_iaddN 12 (2 * ((m_at 10).toNatClampNeg)) hx hb dX7_rowBecomes_213 ?_
                  refine lv_iload_n hx hb dX7_rowBecomes_214 rfl (lv_at hl 8 rfl) ?_
                  refine lv_iload hx hb dX7_rowBecomes_215 (lv_at hl 1 rfl) ?_
                  refine lv_ishr hx hb dX7_rowBecomes_217 ?_
                  refine lv_iconst (v := 1) hx hb dX7_rowBecomes_218 (by decide) ?_
                  refine lv_iand hx hb dX7_rowBecomes_219 ?_
                  have hb1 : (((row >>> ((nI s_1.1) &&& 31)) &&& 1)).toNatClampNeg ≤ 1 := z_b1le _
                  refine zr_val (congrArg Value.int (z_b1 _)) ?_
                  refine W.eq (g2 := F0 m 220 ls [.int (nI (((row >>> ((nI s_1.1) &&& 31)) &&& 1).toNatClampNeg)), .int (nI (12 + (2 * ((m_at 10).toNatClampNeg)))), .ref (ad 1), .int s_1.2]) rfl ?_
                  refine zr_iaddN (12 + (2 * ((m_at 10).toNatClampNeg))) (((row >>> ((nI s_1.1) &&& 31)) &&& 1).toNatClampNeg) hx hb dX7_rowBecomes_220 ?_
                  refine zr_val (v' := .int (nI (12 + (2 * ((m_at 10).toNatClampNeg)) + (((row >>> ((nI s_1.1) &&& 31)) &&& 1).toNatClampNeg)))) (by rfl) ?_
                  refine zr_iald (12 + (2 * ((m_at 10).toNatClampNeg)) + (((row >>> ((nI s_1.1) &&& 31)) &&& 1).toNatClampNeg)) (v := m_at (12 + (2 * ((m_at 10).toNatClampNeg)) + (((row >>> ((nI s_1.1) &&& 31)) &&& 1).toNatClampNeg))) hx hb hK hP 1 rfl rfl (Nat.le_of_ble_eq_true rfl) rfl (by omega) rfl dX7_rowBecomes_221 ?_
                  refine lv_iload hx hb dX7_rowBecomes_222 (lv_at hl 0 rfl) ?_
                  refine lv_ishr hx hb dX7_rowBecomes_224 ?_
                  refine lv_iconst (v := 1) hx hb dX7_rowBecomes_225 (by decide) ?_
                  refine lv_iand hx hb dX7_rowBecomes_226 ?_
                  refine lv_iload hx hb dX7_rowBecomes_227 (lv_at hl 1 rfl) ?_
                  refine lv_ishl hx hb dX7_rowBecomes_229 ?_
                  refine lv_ior hx hb dX7_rowBecomes_230 ?_
                  obtain ⟨v_15, hv_15⟩ : ∃ z : Int32, s_1.2 ||| ((((m_at (12 + (2 * ((m_at 10).toNatClampNeg)) + (((row >>> ((nI s_1.1) &&& 31)) &&& 1).toNatClampNeg))) >>> ((((((above >>> ((nI s_1.1) &&& 31)) &&& 1) + ((undr >>> ((nI s_1.1) &&& 31)) &&& 1)) + ((row >>> ((nI (s_1.1 - 1)) &&& 31)) &&& 1)) + (row &&& 1)) &&& 31)) &&& 1) <<< ((nI s_1.1) &&& 31)) = z := ⟨_, rfl⟩
                  refine zr_val (congrArg Value.int hv_15) ?_
                  refine lv_istore (lv' := [(8, .int v_15), (10, .int (((((above >>> ((nI s_1.1) &&& 31)) &&& 1) + ((undr >>> ((nI s_1.1) &&& 31)) &&& 1)) + ((row >>> ((nI (s_1.1 - 1)) &&& 31)) &&& 1)) + (row &&& 1))), (9, .int (nI s_1.1)), (7, .int (mf_rowOf Wd (m_at 2) y)), (6, .int (mf_rowOf Wd (m_at 4) y)), (5, .int (nI Wd)), (0, .ref (ad 0)), (1, .int above), (2, .int row), (3, .int undr)]) hx hb dX7_rowBecomes_231 hl (by decide) rfl (fun ls hl => ?_)
                  refine lv_iinc (v := nI (s_1.1 + 1)) (lv' := [(9, .int (nI (s_1.1 + 1))), (8, .int v_15), (10, .int (((((above >>> ((nI s_1.1) &&& 31)) &&& 1) + ((undr >>> ((nI s_1.1) &&& 31)) &&& 1)) + ((row >>> ((nI (s_1.1 - 1)) &&& 31)) &&& 1)) + (row &&& 1))), (7, .int (mf_rowOf Wd (m_at 2) y)), (6, .int (mf_rowOf Wd (m_at 4) y)), (5, .int (nI Wd)), (0, .ref (ad 0)), (1, .int above), (2, .int row), (3, .int undr)]) hx hb dX7_rowBecomes_233 hl (k := 2) rfl (nI_add s_1.1 1) (by decide) rfl (fun ls hl => ?_)
                  refine lv_goto (tgt := 56) hx hb dX7_rowBecomes_236 (by decide) ?_
                  exact ih_1 (s_1.1 + 1, v_15) (by omega) ((zw_l (by rw [mf_rowBecomes_B56, if_neg c_2, if_neg c_3, if_neg c_4, if_neg c_5, if_pos c_12, if_pos c_13, zlet_eq hv_15])).symm.trans hR_1) (by omega) ls (lv_sub hl [0, 1, 3, 4, 5, 6, 7, 8, 9] rfl)
              · refine lv_iload hx hb dX7_rowBecomes_161 (lv_at hl 0 rfl) ?_
                refine lv_iload_n hx hb dX7_rowBecomes_163 rfl (lv_at hl 8 rfl) ?_
                refine lv_iload hx hb dX7_rowBecomes_164 (lv_at hl 1 rfl) ?_
                refine lv_iconst (v := 1) hx hb dX7_rowBecomes_166 (by decide) ?_
                refine zr_iaddN s_1.1 1 hx hb dX7_rowBecomes_167 ?_
                refine lv_ishr hx hb dX7_rowBecomes_168 ?_
                refine lv_iconst (v := 1) hx hb dX7_rowBecomes_169 (by decide) ?_
                refine lv_iand hx hb dX7_rowBecomes_170 ?_
                refine lv_iadd hx hb dX7_rowBecomes_171 ?_
                refine lv_istore (lv' := [(10, .int (((((above >>> ((nI s_1.1) &&& 31)) &&& 1) + ((undr >>> ((nI s_1.1) &&& 31)) &&& 1)) + ((row >>> ((nI (s_1.1 - 1)) &&& 31)) &&& 1)) + ((row >>> ((nI (s_1.1 + 1)) &&& 31)) &&& 1))), (9, .int (nI s_1.1)), (8, .int s_1.2), (7, .int (mf_rowOf Wd (m_at 2) y)), (6, .int (mf_rowOf Wd (m_at 4) y)), (5, .int (nI Wd)), (0, .ref (ad 0)), (1, .int above), (2, .int row), (3, .int undr)]) hx hb dX7_rowBecomes_172 hl (by decide) rfl (fun ls hl => ?_)
                refine lv_goto (tgt := 196) hx hb dX7_rowBecomes_174 (by decide) ?_
                refine lv_iload hx hb dX7_rowBecomes_196 (lv_at hl 2 rfl) ?_
                refine lv_aload_n hx hb dX7_rowBecomes_198 rfl (lv_at hl 6 rfl) ?_
                refine va_get (D := G.1) (ci := 7) (v := .ref (ad 1)) (C := RX7) (T := TX7) (N := 39) hx hb hts in_X7 hown hK.1 hP 0 rfl rfl 0 (Nat.le_of_ble_eq_true rfl) (hts _ q1467) (fun _ h => h) rfl dX7_rowBecomes_199 ?_
                refine lv_bipush (v := 12) hx hb dX7_rowBecomes_202 (by decide) ?_
                refine lv_iconst (v := 2) hx hb dX7_rowBecomes_204 (by decide) ?_
                refine lv_aload_n hx hb dX7_rowBecomes_205 rfl (lv_at hl 6 rfl) ?_
                refine va_get (D := G.1) (ci := 7) (v := .ref (ad 1)) (C := RX7) (T := TX7) (N := 39) hx hb hts in_X7 hown hK.1 hP 0 rfl rfl 0 (Nat.le_of_ble_eq_true rfl) (hts _ q1467) (fun _ h => h) rfl dX7_rowBecomes_206 ?_
                refine lv_bipush (v := 10) hx hb dX7_rowBecomes_209 (by decide) ?_
                refine zr_iald 10 (v := m_at 10) hx hb hK hP 1 rfl rfl (Nat.le_of_ble_eq_true rfl) rfl (by decide) rfl dX7_rowBecomes_211 ?_
                refine zr_val (congrArg Value.int (z_nn hq0)) ?_
                refine W.eq (g2 := F0 m 212 ls [.int (nI ((m_at 10).toNatClampNeg)), .int 2, .int 12, .ref (ad 1), .int s_1.2]) rfl ?_
                refine zr_imulN 2 ((m_at 10).toNatClampNeg) hx hb dX7_rowBecomes_212 ?_
                refine zr_iaddN 12 (2 * ((m_at 10).toNatClampNeg)) hx hb dX7_rowBecomes_213 ?_
                refine lv_iload_n hx hb dX7_rowBecomes_214 rfl (lv_at hl 8 rfl) ?_
                refine lv_iload hx hb dX7_rowBecomes_215 (lv_at hl 1 rfl) ?_
                refine lv_ishr hx hb dX7_rowBecomes_217 ?_
                refine lv_iconst (v := 1) hx hb dX7_rowBecomes_218 (by decide) ?_
                refine lv_iand hx hb dX7_rowBecomes_219 ?_
                have hb1 : (((row >>> ((nI s_1.1) &&& 31)) &&& 1)).toNatClampNeg ≤ 1 := z_b1le _
                refine zr_val (congrArg Value.int (z_b1 _)) ?_
                refine W.eq (g2 := F0 m 220 ls [.int (nI (((row >>> ((nI s_1.1) &&& 31)) &&& 1).toNatClampNeg)), .int (nI (12 + (2 * ((m_at 10).toNatClampNeg)))), .ref (ad 1), .int s_1.2]) rfl ?_
                refine zr_iaddN (12 + (2 * ((m_at 10).toNatClampNeg))) (((row >>> ((nI s_1.1) &&& 31)) &&& 1).toNatClampNeg) hx hb dX7_rowBecomes_220 ?_
                refine zr_val (v' := .int (nI (12 + (2 * ((m_at 10).toNatClampNeg)) + (((row >>> ((nI s_1.1) &&& 31)) &&& 1).toNatClampNeg)))) (by rfl) ?_
                refine zr_iald (12 + (2 * ((m_at 10).toNatClampNeg)) + (((row >>> ((nI s_1.1) &&& 31)) &&& 1).toNatClampNeg)) (v := m_at (12 + (2 * ((m_at 10).toNatClampNeg)) + (((row >>> ((nI s_1.1) &&& 31)) &&& 1).toNatClampNeg))) hx hb hK hP 1 rfl rfl (Nat.le_of_ble_eq_true rfl) rfl (by omega) rfl dX7_rowBecomes_221 ?_
                refine lv_iload hx hb dX7_rowBecomes_222 (lv_at hl 0 rfl) ?_
                refine lv_ishr hx hb dX7_rowBecomes_224 ?_
                refine lv_iconst (v := 1) hx hb dX7_rowBecomes_225 (by decide) ?_
                refine lv_iand hx hb dX7_rowBecomes_226 ?_
                refine lv_iload hx hb dX7_rowBecomes_227 (lv_at hl 1 rfl) ?_
                refine lv_ishl hx hb dX7_rowBecomes_229 ?_
                refine lv_ior hx hb dX7_rowBecomes_230 ?_
                obtain ⟨v_16, hv_16⟩ : ∃ z : Int32, s_1.2 ||| ((((m_at (12 + (2 * ((m_at 10).toNatClampNeg)) + (((row >>> ((nI s_1.1) &&& 31)) &&& 1).toNatClampNeg))) >>> ((((((above >>> ((nI s_1.1) &&& 31)) &&& 1) + ((undr >>> ((nI s_1.1) &&& 31)) &&& 1)) + ((row >>> ((nI (s_1.1 - 1)) &&& 31)) &&& 1)) + ((row >>> ((nI (s_1.1 + 1)) &&& 31)) &&& 1)) &&& 31)) &&& 1) <<< ((nI s_1.1) &&& 31)) = z := ⟨_, rfl⟩
                refine zr_val (congrArg Value.int hv_16) ?_
                refine lv_istore (lv' := [(8, .int v_16), (10, .int (((((above >>> ((nI s_1.1) &&& 31)) &&& 1) + ((undr >>> ((nI s_1.1) &&& 31)) &&& 1)) + ((row >>> ((nI (s_1.1 - 1)) &&& 31)) &&& 1)) + ((row >>> ((nI (s_1.1 + 1)) &&& 31)) &&& 1))), (9, .int (nI s_1.1)), (7, .int (mf_rowOf Wd (m_at 2) y)), (6, .int (mf_rowOf Wd (m_at 4) y)), (5, .int (nI Wd)), (0, .ref (ad 0)), (1, .int above), (2, .int row), (3, .int undr)]) hx hb dX7_rowBecomes_231 hl (by decide) rfl (fun ls hl => ?_)
                refine lv_iinc (v := nI (s_1.1 + 1)) (lv' := [(9, .int (nI (s_1.1 + 1))), (8, .int v_16), (10, .int (((((above >>> ((nI s_1.1) &&& 31)) &&& 1) + ((undr >>> ((nI s_1.1) &&& 31)) &&& 1)) + ((row >>> ((nI (s_1.1 - 1)) &&& 31)) &&& 1)) + ((row >>> ((nI (s_1.1 + 1)) &&& 31)) &&& 1))), (7, .int (mf_rowOf Wd (m_at 2) y)), (6, .int (mf_rowOf Wd (m_at 4) y)), (5, .int (nI Wd)), (0, .ref (ad 0)), (1, .int above), (2, .int row), (3, .int undr)]) hx hb dX7_rowBecomes_233 hl (k := 2) rfl (nI_add s_1.1 1) (by decide) rfl (fun ls hl => ?_)
                refine lv_goto (tgt := 56) hx hb dX7_rowBecomes_236 (by decide) ?_
                exact ih_1 (s_1.1 + 1, v_16) (by omega) ((zw_l (by rw [mf_rowBecomes_B56, if_neg c_2, if_neg c_3, if_neg c_4, if_neg c_5, if_neg c_12, zlet_eq hv_16])).symm.trans hR_1) (by omega) ls (lv_sub hl [0, 1, 3, 4, 5, 6, 7, 8, 9] rfl)
          · refine lv_goto (tgt := 233) hx hb dX7_rowBecomes_89 (by decide) ?_
            refine lv_iinc (v := nI (s_1.1 + 1)) (lv' := [(9, .int (nI (s_1.1 + 1))), (8, .int s_1.2), (7, .int (mf_rowOf Wd (m_at 2) y)), (6, .int (mf_rowOf Wd (m_at 4) y)), (5, .int (nI Wd)), (0, .ref (ad 0)), (1, .int above), (2, .int row), (3, .int undr)]) hx hb dX7_rowBecomes_233 hl (k := 0) rfl (nI_add s_1.1 1) (by decide) rfl (fun ls hl => ?_)
            refine lv_goto (tgt := 56) hx hb dX7_rowBecomes_236 (by decide) ?_
            exact ih_1 (s_1.1 + 1, s_1.2) (by omega) ((zw_l (by rw [mf_rowBecomes_B56, if_neg c_2, if_neg c_3, if_pos c_4])).symm.trans hR_1) (by omega) ls (lv_sub hl [0, 1, 2, 3, 4, 5, 6, 7, 8] rfl)
  exact hlp_1 _ (0, (mf_rowOf Wd (m_at 3) y) &&& (mf_rowOf Wd (m_at 4) y)) (Nat.lt_succ_self _) (by rw [mf_rowBecomes_L56]) (by omega) ls (lv_sub hl [0, 1, 2, 3, 4, 5, 6, 7, 8] rfl)
def mf_isGood (m_at : Nat → Int32) (Wd : Nat) (above : Int32) (row : Int32) (undr : Int32) (y : Int32) (still : Bool) : Bool :=
  (if still = true then
    (if (mf_rowBecomes m_at Wd above row undr y) = row then
      true
    else
      false)
  else
    (if (mf_rowBecomes m_at Wd above row undr y) = (mf_rowOf Wd (m_at 3) y) then
      true
    else
      false))
theorem hd_X7_isGood : yX7_isGood.cls = RX7 ∧ yX7_isGood.cls ≠ "java/lang/invoke/MethodHandle" ∧ yX7_isGood.cls ≠ "java/lang/invoke/VarHandle" ∧ (parseMethodDescriptor yX7_isGood.desc).map (fun d => d.parameters.length) = some 5 := by decide +kernel
set_option maxHeartbeats 4000000 in
set_option maxRecDepth 100000 in
theorem mt_mf_isGood (l : Launch) (G : zG) (ad : Nat → Nat) (m_status : Int32) (m_top : Int64) (m_bottom : Int64) (m_taped : Int32) (m_size : Int32) (m_token : Int32) (m_from : Int32) (m_end : Int32) (m_value : Int32) (m_faultKind : Int32) (m_faultPlace : Int32) (m_faults : Int32) (m_seen : Int32) (m_depth : Int32) (m_counted : Int32) (m_lead : Int32) (m_round : Int32) (m_tried : Int32) (m_triedMany : Int32) (m_drawn : Int32) (m_ranSteps : Int32) (m_isTold : Bool) (m_marks : Int32) (m_at : Nat → Int32) (m_names : Nat → Int64) (m_sort : Nat → Int32) (m_trayMany : Nat → Int32) (m_trays : Nat → Int64) (m_tape : Nat → Int32) (m_text : Nat → Int32) (m_opened : Nat → Int32) (m_beside : Nat → Int32) (m_then : Nat → Int32) (m_ways : Nat → Int64) (m_further : Nat → Int64) (m_canBe : Nat → Int32) (m_loops : Nat → Int32) (m_ran : Nat → Int32) (m_told0 : Nat → Int32) (Wd : Nat) (R : Nat) (nr : Nat) (nc : Nat) (above : Int32) (row : Int32) (undr : Int32) (y : Int32) (still : Bool) (hG : mOK m_at Wd R nr nc) : Met l yX7_isGood (ws_ yX7_isGood cX7_isGood 6 (some .boolean)) (zR 3 0 0) (zPo G [.ref (ad 0), .int above, .int row, .int undr, .int y, .int (zb still)] (mW G ad m_status m_top m_bottom m_taped m_size m_token m_from m_end m_value m_faultKind m_faultPlace m_faults m_seen m_depth m_counted m_lead m_round m_tried m_triedMany m_drawn m_ranSteps m_isTold m_marks m_at m_names m_sort m_trayMany m_trays m_tape m_text m_opened m_beside m_then m_ways m_further m_canBe m_loops m_ran m_told0)) (k2_QcV (.int (zb (mf_isGood m_at Wd above row undr y still)))) 0 0 (fun _ => False) := by
  refine zr_entO (by decide) (Nat.le_of_ble_eq_true rfl) ?_
  intro p e s m below meth c ⟨hx, hb, hr, hml, hown, hts, hlocks, hnm⟩ ls hl hP hK hE
  have hown : s.vm.findClass RX7 = some m.cls := hown
  have hl : lv_has ls 6 [(0, .ref (ad 0)), (1, .int above), (2, .int row), (3, .int undr), (4, .int y), (5, .int (zb still))] := hl
  have hWR := mOK_WR hG
  have hW0 := mOK_W0 hG
  have hW5 := mOK_W5 hG
  have hR0 := mOK_R0 hG
  have hR6 := mOK_R6 hG
  have hn4 := mOK_n4 hG
  have hc6 := mOK_c6 hG
  refine lv_aload_n hx hb dX7_isGood_0 rfl (lv_at hl 0 rfl) ?_
  refine lv_iload_n hx hb dX7_isGood_1 rfl (lv_at hl 1 rfl) ?_
  refine lv_iload_n hx hb dX7_isGood_2 rfl (lv_at hl 2 rfl) ?_
  refine lv_iload_n hx hb dX7_isGood_3 rfl (lv_at hl 3 rfl) ?_
  refine lv_iload hx hb dX7_isGood_4 (lv_at hl 4 rfl) ?_
  refine zr_obV ⟨hx, hb, hml, hown, hts⟩ (mt_mf_rowBecomes l G ad m_status m_top m_bottom m_taped m_size m_token m_from m_end m_value m_faultKind m_faultPlace m_faults m_seen m_depth m_counted m_lead m_round m_tried m_triedMany m_drawn m_ranSteps m_isTold m_marks m_at m_names m_sort m_trayMany m_trays m_tape m_text m_opened m_beside m_then m_ways m_further m_canBe m_loops m_ran m_told0 Wd R nr nc above row undr y hG) (cwV 4 hts (lw_V q1964 q1966 qs114 q144 q1967) rfl rfl rfl hd_X7_rowBecomes ⟨(Nat.le_of_ble_eq_true rfl), (Nat.le_of_ble_eq_true rfl)⟩) hP hK hE 0 7 rfl rfl rfl hl.1 rfl (Nat.le_of_ble_eq_true rfl) dX7_isGood_6 ⟨Nat.le_refl _, Nat.le_refl _⟩ ?_
  refine lv_iload hx hb dX7_isGood_9 (lv_at hl 5 rfl) ?_
  refine zr_eqB still (tgt := 18) hx hb dX7_isGood_11 (by decide) (fun c_1 => ?_) (fun c_1 => ?_)
  · refine lv_aload_n hx hb dX7_isGood_18 rfl (lv_at hl 0 rfl) ?_
    refine lv_aload_n hx hb dX7_isGood_19 rfl (lv_at hl 0 rfl) ?_
    refine va_get (D := G.1) (ci := 7) (v := .ref (ad 1)) (C := RX7) (T := TX7) (N := 39) hx hb hts in_X7 hown hK.1 hP 0 rfl rfl 0 (Nat.le_of_ble_eq_true rfl) (hts _ q1467) (fun _ h => h) rfl dX7_isGood_20 ?_
    refine lv_iconst (v := 3) hx hb dX7_isGood_23 (by decide) ?_
    refine zr_iald 3 (v := m_at 3) hx hb hK hP 1 rfl rfl (Nat.le_of_ble_eq_true rfl) rfl (by decide) rfl dX7_isGood_24 ?_
    refine lv_iload hx hb dX7_isGood_25 (lv_at hl 4 rfl) ?_
    refine zr_obV ⟨hx, hb, hml, hown, hts⟩ (mt_mf_rowOf l G ad m_status m_top m_bottom m_taped m_size m_token m_from m_end m_value m_faultKind m_faultPlace m_faults m_seen m_depth m_counted m_lead m_round m_tried m_triedMany m_drawn m_ranSteps m_isTold m_marks m_at m_names m_sort m_trayMany m_trays m_tape m_text m_opened m_beside m_then m_ways m_further m_canBe m_loops m_ran m_told0 Wd R nr nc (m_at 3) y hG) (cwV 2 hts (lw_V q1868 q1870 qs103 q144 q1871) rfl rfl rfl hd_X7_rowOf ⟨(Nat.le_of_ble_eq_true rfl), (Nat.le_of_ble_eq_true rfl)⟩) hP hK hE 0 7 rfl rfl rfl hl.1 rfl (Nat.le_of_ble_eq_true rfl) dX7_isGood_27 ⟨Nat.le_refl _, Nat.le_refl _⟩ ?_
    refine lv_icmp_ne (tgt := 37) hx hb dX7_isGood_30 (by decide) (fun c_2 => ?_) (fun c_2 => ?_)
    · refine lv_iconst (v := 0) hx hb dX7_isGood_37 (by decide) ?_
      have e_ : mf_isGood m_at Wd above row undr y still = false := by rw [mf_isGood, if_neg c_1, if_neg c_2]
      exact zr_oz hx hb hr hlocks dX7_isGood_38 rfl (congrArg (fun z => Value.int (zb z)) e_)
    · refine lv_iconst (v := 1) hx hb dX7_isGood_33 (by decide) ?_
      refine lv_goto (tgt := 38) hx hb dX7_isGood_34 (by decide) ?_
      have e_ : mf_isGood m_at Wd above row undr y still = true := by rw [mf_isGood, if_neg c_1, if_pos c_2]
      exact zr_oz hx hb hr hlocks dX7_isGood_38 rfl (congrArg (fun z => Value.int (zb z)) e_)
  · refine lv_iload_n hx hb dX7_isGood_14 rfl (lv_at hl 2 rfl) ?_
    refine lv_goto (tgt := 30) hx hb dX7_isGood_15 (by decide) ?_
    refine lv_icmp_ne (tgt := 37) hx hb dX7_isGood_30 (by decide) (fun c_3 => ?_) (fun c_3 => ?_)
    · refine lv_iconst (v := 0) hx hb dX7_isGood_37 (by decide) ?_
      have e_ : mf_isGood m_at Wd above row undr y still = false := by rw [mf_isGood, if_pos c_1, if_neg c_3]
      exact zr_oz hx hb hr hlocks dX7_isGood_38 rfl (congrArg (fun z => Value.int (zb z)) e_)
    · refine lv_iconst (v := 1) hx hb dX7_isGood_33 (by decide) ?_
      refine lv_goto (tgt := 38) hx hb dX7_isGood_34 (by decide) ?_
      have e_ : mf_isGood m_at Wd above row undr y still = true := by rw [mf_isGood, if_pos c_1, if_pos c_3]
      exact zr_oz hx hb hr hlocks dX7_isGood_38 rfl (congrArg (fun z => Value.int (zb z)) e_)
def mf_reckons_B11  (k_1 : Nat) (s_1 : (Nat → Int64)) : (Nat → Int64) :=
  vp_updL s_1 k_1 0
def mf_reckons_L11  (s_1 : (Nat → Int64)) : (Nat → Int64) := zf (mf_reckons_B11 ) s_1 1024
def mf_reckons_B33 (m_at : Nat → Int32) (Wd : Nat) (k_2 : Nat) (s_2 : (Nat → Int64)) : (Nat → Int64) :=
  (if (mf_fitsRow m_at Wd (nI k_2) 0) = true then
    vp_updL s_2 k_2 1
  else
    vp_updL s_2 k_2 0)
def mf_reckons_L33 (m_at : Nat → Int32) (Wd : Nat) (s_2 : (Nat → Int64)) : (Nat → Int64) := zf (mf_reckons_B33 m_at Wd) s_2 (zpw Wd)
def mf_reckons_B66 (s_2 : (Nat → Int64)) (k_4 : Nat) (s_4 : (Nat → Int32)) : (Nat → Int32) :=
  (if 0 < (s_2 k_4) then
    upd s_4 k_4 1
  else
    upd s_4 k_4 0)
def mf_reckons_L66 (s_2 : (Nat → Int64)) (s_4 : (Nat → Int32)) : (Nat → Int32) := zf (mf_reckons_B66 s_2) s_4 1024
def mf_reckons_B116  (k_8 : Nat) (s_8 : (Nat → Int64)) : (Nat → Int64) :=
  vp_updL s_8 k_8 0
def mf_reckons_L116  (s_8 : (Nat → Int64)) : (Nat → Int64) := zf (mf_reckons_B116 ) s_8 1024
def mf_reckons_B180 (m_at : Nat → Int32) (Wd : Nat) (still : Bool) (s_6 : Nat × (Nat → Int64) × (Nat → Int64) × (Nat → Int32)) (k_9 : Nat) (k_10 : Nat) (k_12 : Nat) (s_12 : (Nat → Int64)) : (Nat → Int64) :=
  (if (mf_fitsRow m_at Wd (nI k_12) (nI s_6.1)) = true then
    (if (mf_isGood m_at Wd (nI k_9) (nI k_10) (nI k_12) (nI (s_6.1 - 1)) still) = true then
      vp_updL s_12 (32 * k_10 + k_12) ((s_12 (32 * k_10 + k_12)) + (s_6.2.1 (32 * k_9 + k_10)))
    else
      s_12)
  else
    s_12)
def mf_reckons_L180 (m_at : Nat → Int32) (Wd : Nat) (still : Bool) (s_6 : Nat × (Nat → Int64) × (Nat → Int64) × (Nat → Int32)) (k_9 : Nat) (k_10 : Nat) (s_12 : (Nat → Int64)) : (Nat → Int64) := zf (mf_reckons_B180 m_at Wd still s_6 k_9 k_10) s_12 (zpw Wd)
def mf_reckons_B150 (m_at : Nat → Int32) (Wd : Nat) (still : Bool) (s_6 : Nat × (Nat → Int64) × (Nat → Int64) × (Nat → Int32)) (k_9 : Nat) (k_10 : Nat) (s_10 : (Nat → Int64)) : (Nat → Int64) :=
  (if (s_6.2.1 (32 * k_9 + k_10)) = 0 then
    s_10
  else
    zlet (mf_reckons_L180 m_at Wd still s_6 k_9 k_10 s_10) (fun s_12 =>
    s_12))
def mf_reckons_L150 (m_at : Nat → Int32) (Wd : Nat) (still : Bool) (s_6 : Nat × (Nat → Int64) × (Nat → Int64) × (Nat → Int32)) (k_9 : Nat) (s_10 : (Nat → Int64)) : (Nat → Int64) := zf (mf_reckons_B150 m_at Wd still s_6 k_9) s_10 (zpw Wd)
def mf_reckons_B141 (m_at : Nat → Int32) (Wd : Nat) (still : Bool) (s_6 : Nat × (Nat → Int64) × (Nat → Int64) × (Nat → Int32)) (k_9 : Nat) (s_9 : (Nat → Int64)) : (Nat → Int64) :=
  zlet (mf_reckons_L150 m_at Wd still s_6 k_9 s_9) (fun s_10 =>
  s_10)
def mf_reckons_L141 (m_at : Nat → Int32) (Wd : Nat) (still : Bool) (s_6 : Nat × (Nat → Int64) × (Nat → Int64) × (Nat → Int32)) (s_9 : (Nat → Int64)) : (Nat → Int64) := zf (mf_reckons_B141 m_at Wd still s_6) s_9 (zpw Wd)
def mf_reckons_B263 (s_6 : Nat × (Nat → Int64) × (Nat → Int64) × (Nat → Int32)) (s_9 : (Nat → Int64)) (k_15 : Nat) (s_15 : (Nat → Int64) × (Nat → Int32)) : (Nat → Int64) × (Nat → Int32) :=
  (if 0 < ((vp_updL s_15.1 k_15 (s_9 k_15)) k_15) then
    (vp_updL s_15.1 k_15 (s_9 k_15), upd s_15.2 (1024 * s_6.1 + k_15) 1)
  else
    (vp_updL s_15.1 k_15 (s_9 k_15), upd s_15.2 (1024 * s_6.1 + k_15) 0))
def mf_reckons_L263 (s_6 : Nat × (Nat → Int64) × (Nat → Int64) × (Nat → Int32)) (s_9 : (Nat → Int64)) (s_15 : (Nat → Int64) × (Nat → Int32)) : (Nat → Int64) × (Nat → Int32) := zf (mf_reckons_B263 s_6 s_9) s_15 1024
def mf_reckons_B103 (m_at : Nat → Int32) (Wd : Nat) (R : Nat) (still : Bool) (s_6 : Nat × (Nat → Int64) × (Nat → Int64) × (Nat → Int32)) : (Nat × (Nat → Int64) × (Nat → Int64) × (Nat → Int32)) ⊕ (Nat × (Nat → Int64) × (Nat → Int64) × (Nat → Int32)) :=
  (if R ≤ s_6.1 then
    .inr (s_6.1, s_6.2.1, s_6.2.2.1, s_6.2.2.2)
  else
    zlet (mf_reckons_L116  s_6.2.2.1) (fun s_8 =>
    zlet (mf_reckons_L141 m_at Wd still s_6 s_8) (fun s_9 =>
    zlet (mf_reckons_L263 s_6 s_9 (s_6.2.1, s_6.2.2.2)) (fun s_15 =>
    .inl (s_6.1 + 1, s_15.1, s_9, s_15.2)))))
def mf_reckons_L103 (m_at : Nat → Int32) (Wd : Nat) (R : Nat) (still : Bool) (s_6 : Nat × (Nat → Int64) × (Nat → Int64) × (Nat → Int32)) : Nat × (Nat → Int64) × (Nat → Int64) × (Nat → Int32) := zw (mf_reckons_B103 m_at Wd R still) (s_6) ((R - s_6.1) + 1) s_6
def mf_reckons_B341 (m_at : Nat → Int32) (Wd : Nat) (R : Nat) (still : Bool) (t_6 : Nat × (Nat → Int64) × (Nat → Int64) × (Nat → Int32)) (k_17 : Nat) (k_18 : Nat) (s_18 : Int64) : Int64 :=
  (if 0 < (t_6.2.1 (32 * k_17 + k_18)) then
    (if (mf_isGood m_at Wd (nI k_17) (nI k_18) 0 (nI (R - 1)) still) = true then
      s_18 + (t_6.2.1 (32 * k_17 + k_18))
    else
      s_18 + 0)
  else
    s_18 + 0)
def mf_reckons_L341 (m_at : Nat → Int32) (Wd : Nat) (R : Nat) (still : Bool) (t_6 : Nat × (Nat → Int64) × (Nat → Int64) × (Nat → Int32)) (k_17 : Nat) (s_18 : Int64) : Int64 := zf (mf_reckons_B341 m_at Wd R still t_6 k_17) s_18 (zpw Wd)
def mf_reckons_B332 (m_at : Nat → Int32) (Wd : Nat) (R : Nat) (still : Bool) (t_6 : Nat × (Nat → Int64) × (Nat → Int64) × (Nat → Int32)) (k_17 : Nat) (s_17 : Int64) : Int64 :=
  zlet (mf_reckons_L341 m_at Wd R still t_6 k_17 s_17) (fun s_18 =>
  s_18)
def mf_reckons_L332 (m_at : Nat → Int32) (Wd : Nat) (R : Nat) (still : Bool) (t_6 : Nat × (Nat → Int64) × (Nat → Int64) × (Nat → Int32)) (s_17 : Int64) : Int64 := zf (mf_reckons_B332 m_at Wd R still t_6) s_17 (zpw Wd)
def mf_reckons (m_at : Nat → Int32) (m_ways : Nat → Int64) (m_further : Nat → Int64) (m_canBe : Nat → Int32) (Wd : Nat) (R : Nat) (still : Bool) : Int64 × (Nat → Int64) × (Nat → Int64) × (Nat → Int32) :=
  zlet (mf_reckons_L11  m_ways) (fun s_1 =>
  zlet (mf_reckons_L33 m_at Wd s_1) (fun s_2 =>
  zlet (mf_reckons_L66 s_2 m_canBe) (fun s_4 =>
  zlet (mf_reckons_L103 m_at Wd R still (1, s_2, m_further, s_4)) (fun t_6 =>
  zlet (mf_reckons_L332 m_at Wd R still t_6 0) (fun s_17 =>
  (s_17, t_6.2.1, t_6.2.2.1, t_6.2.2.2))))))
theorem hd_X7_reckons : yX7_reckons.cls = RX7 ∧ yX7_reckons.cls ≠ "java/lang/invoke/MethodHandle" ∧ yX7_reckons.cls ≠ "java/lang/invoke/VarHandle" ∧ (parseMethodDescriptor yX7_reckons.desc).map (fun d => d.parameters.length) = some 1 := by decide +kernel
set_option maxHeartbeats 4000000 in
set_option maxRecDepth 100000 in
theorem mt_mf_reckons (l : Launch) (G : zG) (ad : Nat → Nat) (m_status : Int32) (m_top : Int64) (m_bottom : Int64) (m_taped : Int32) (m_size : Int32) (m_token : Int32) (m_from : Int32) (m_end : Int32) (m_value : Int32) (m_faultKind : Int32) (m_faultPlace : Int32) (m_faults : Int32) (m_seen : Int32) (m_depth : Int32) (m_counted : Int32) (m_lead : Int32) (m_round : Int32) (m_tried : Int32) (m_triedMany : Int32) (m_drawn : Int32) (m_ranSteps : Int32) (m_isTold : Bool) (m_marks : Int32) (m_at : Nat → Int32) (m_names : Nat → Int64) (m_sort : Nat → Int32) (m_trayMany : Nat → Int32) (m_trays : Nat → Int64) (m_tape : Nat → Int32) (m_text : Nat → Int32) (m_opened : Nat → Int32) (m_beside : Nat → Int32) (m_then : Nat → Int32) (m_ways : Nat → Int64) (m_further : Nat → Int64) (m_canBe : Nat → Int32) (m_loops : Nat → Int32) (m_ran : Nat → Int32) (m_told0 : Nat → Int32) (Wd : Nat) (R : Nat) (nr : Nat) (nc : Nat) (still : Bool) (hG : mOK m_at Wd R nr nc) (sz : Nat) : Met l yX7_reckons (ws_ yX7_reckons cX7_reckons 7 (some .long)) (zR 4 0 0) (zPm G sz [.ref (ad 0), .int (zb still)] (mW G ad m_status m_top m_bottom m_taped m_size m_token m_from m_end m_value m_faultKind m_faultPlace m_faults m_seen m_depth m_counted m_lead m_round m_tried m_triedMany m_drawn m_ranSteps m_isTold m_marks m_at m_names m_sort m_trayMany m_trays m_tape m_text m_opened m_beside m_then m_ways m_further m_canBe m_loops m_ran m_told0)) (zQm G (True) (some (.long ((mf_reckons m_at m_ways m_further m_canBe Wd R still).1))) (mW G ad m_status m_top m_bottom m_taped m_size m_token m_from m_end m_value m_faultKind m_faultPlace m_faults m_seen m_depth m_counted m_lead m_round m_tried m_triedMany m_drawn m_ranSteps m_isTold m_marks m_at m_names m_sort m_trayMany m_trays m_tape m_text m_opened m_beside m_then ((mf_reckons m_at m_ways m_further m_canBe Wd R still).2.1) ((mf_reckons m_at m_ways m_further m_canBe Wd R still).2.2.1) ((mf_reckons m_at m_ways m_further m_canBe Wd R still).2.2.2) m_loops m_ran m_told0) (va_A (mW G ad m_status m_top m_bottom m_taped m_size m_token m_from m_end m_value m_faultKind m_faultPlace m_faults m_seen m_depth m_counted m_lead m_round m_tried m_triedMany m_drawn m_ranSteps m_isTold m_marks m_at m_names m_sort m_trayMany m_trays m_tape m_text m_opened m_beside m_then m_ways m_further m_canBe m_loops m_ran m_told0) sz)) 0 0 (va_A (mW G ad m_status m_top m_bottom m_taped m_size m_token m_from m_end m_value m_faultKind m_faultPlace m_faults m_seen m_depth m_counted m_lead m_round m_tried m_triedMany m_drawn m_ranSteps m_isTold m_marks m_at m_names m_sort m_trayMany m_trays m_tape m_text m_opened m_beside m_then m_ways m_further m_canBe m_loops m_ran m_told0) sz) := by
  refine zr_entM (by decide) (Nat.le_of_ble_eq_true rfl) ?_
  intro p e s m below meth c ⟨hx, hb, hr, hml, hown, hts, hlocks, hnm⟩ ls hl hP hK A hE hA hD hS
  have hown : s.vm.findClass RX7 = some m.cls := hown
  have hl : lv_has ls 7 [(0, .ref (ad 0)), (1, .int (zb still))] := hl
  obtain ⟨H, hH⟩ : ∃ H, H = s.heap := ⟨_, rfl⟩
  obtain ⟨locs, hlo⟩ : ∃ L : List Loc, L = [] := ⟨_, rfl⟩
  rw [← hH] at hP
  have hS : va_S A s.heap H locs := by rw [hH, hlo]; exact va_S.rf
  have hgo : W p l e (zR 4 0 0) s m ([.ref (ad 0), .int (zb still)] : List Value).toArray below meth c H locs 0 0 (MQ below (zQm G (True) (some (.long ((mf_reckons m_at m_ways m_further m_canBe Wd R still).1))) (mW G ad m_status m_top m_bottom m_taped m_size m_token m_from m_end m_value m_faultKind m_faultPlace m_faults m_seen m_depth m_counted m_lead m_round m_tried m_triedMany m_drawn m_ranSteps m_isTold m_marks m_at m_names m_sort m_trayMany m_trays m_tape m_text m_opened m_beside m_then ((mf_reckons m_at m_ways m_further m_canBe Wd R still).2.1) ((mf_reckons m_at m_ways m_further m_canBe Wd R still).2.2.1) ((mf_reckons m_at m_ways m_further m_canBe Wd R still).2.2.2) m_loops m_ran m_told0) A) ([.ref (ad 0), .int (zb still)] : List Value).toArray s 0 0 A) (F0 m 0 ls []) := ?_
  · rw [hH, hlo] at hgo; exact hgo
  clear hH hlo
  have hWR := mOK_WR hG
  have hW0 := mOK_W0 hG
  have hW5 := mOK_W5 hG
  have hR0 := mOK_R0 hG
  have hR6 := mOK_R6 hG
  have hn4 := mOK_n4 hG
  have hc6 := mOK_c6 hG
  have hpw := zpw_le Wd (by omega)
  have hpw1 := zpw_1 Wd (by omega)
  refine lv_iconst (v := 1) hx hb dX7_reckons_0 (by decide) ?_
  refine lv_aload_n hx hb dX7_reckons_1 rfl (lv_at hl 0 rfl) ?_
  refine va_get (D := G.1) (ci := 7) (v := .ref (ad 1)) (C := RX7) (T := TX7) (N := 39) hx hb hts in_X7 hown hK.1 hP 0 rfl rfl 0 (Nat.le_of_ble_eq_true rfl) (hts _ q1467) (fun _ h => h) rfl dX7_reckons_2 ?_
  refine lv_iconst (v := 0) hx hb dX7_reckons_5 (by decide) ?_
  refine zr_iald 0 (v := nI Wd) hx hb hK hP 1 rfl rfl (Nat.le_of_ble_eq_true rfl) rfl (by decide) (mOK_w hG) dX7_reckons_6 ?_
  refine lv_ishl hx hb dX7_reckons_7 ?_
  refine zr_val (congrArg Value.int (zpw_e Wd (by omega))) ?_
  refine W.eq (g2 := F0 m 8 ls [.int (nI (zpw Wd))]) rfl ?_
  refine lv_istore_n (lv' := [(2, .int (nI (zpw Wd))), (0, .ref (ad 0)), (1, .int (zb still))]) hx hb dX7_reckons_8 rfl hl (by decide) rfl (fun ls hl => ?_)
  refine lv_iconst (v := 0) hx hb dX7_reckons_9 (by decide) ?_
  refine lv_istore_n (lv' := [(3, .int 0), (2, .int (nI (zpw Wd))), (0, .ref (ad 0)), (1, .int (zb still))]) hx hb dX7_reckons_10 rfl hl (by decide) rfl (fun ls hl => ?_)
  have hlp_1 : ∀ (n k_1 : Nat) (s_1 : (Nat → Int64)), k_1 ≤ 1024 → 1024 < k_1 + n → zf (mf_reckons_B11 ) m_ways k_1 = s_1 → ∀ (H : Heap) (locs : List Loc), va_P G.1 zcl (mW G ad m_status m_top m_bottom m_taped m_size m_token m_from m_end m_value m_faultKind m_faultPlace m_faults m_seen m_depth m_counted m_lead m_round m_tried m_triedMany m_drawn m_ranSteps m_isTold m_marks m_at m_names m_sort m_trayMany m_trays m_tape m_text m_opened m_beside m_then s_1 m_further m_canBe m_loops m_ran m_told0) H → va_D A (mW G ad m_status m_top m_bottom m_taped m_size m_token m_from m_end m_value m_faultKind m_faultPlace m_faults m_seen m_depth m_counted m_lead m_round m_tried m_triedMany m_drawn m_ranSteps m_isTold m_marks m_at m_names m_sort m_trayMany m_trays m_tape m_text m_opened m_beside m_then s_1 m_further m_canBe m_loops m_ran m_told0) → va_S A s.heap H locs → ∀ ls : Array Slot, lv_has ls 7 [(3, .int (nI k_1)), (2, .int (nI (zpw Wd))), (0, .ref (ad 0)), (1, .int (zb still))] → W p l e (zR 4 0 0) s m ([.ref (ad 0), .int (zb still)] : List Value).toArray below meth c H locs 0 0 (MQ below (zQm G (True) (some (.long ((mf_reckons m_at m_ways m_further m_canBe Wd R still).1))) (mW G ad m_status m_top m_bottom m_taped m_size m_token m_from m_end m_value m_faultKind m_faultPlace m_faults m_seen m_depth m_counted m_lead m_round m_tried m_triedMany m_drawn m_ranSteps m_isTold m_marks m_at m_names m_sort m_trayMany m_trays m_tape m_text m_opened m_beside m_then ((mf_reckons m_at m_ways m_further m_canBe Wd R still).2.1) ((mf_reckons m_at m_ways m_further m_canBe Wd R still).2.2.1) ((mf_reckons m_at m_ways m_further m_canBe Wd R still).2.2.2) m_loops m_ran m_told0) A) ([.ref (ad 0), .int (zb still)] : List Value).toArray s 0 0 A) (F0 m 11 ls []) := by
    intro n
    induction n with
    | zero => intro k_1 s_1 h1 h2; exact absurd h2 (by omega)
    | succ n ih_1 =>
      intro k_1 s_1 hk_1 hn_1 hst_1 H locs hP hD hS ls hl
      refine lv_iload_n hx hb dX7_reckons_11 rfl (lv_at hl 0 rfl) ?_
      refine lv_sipush (v := 1024) hx hb dX7_reckons_12 (by decide) ?_
      refine zr_ge k_1 1024 (by omega) (by decide) (tgt := 31) hx hb dX7_reckons_15 (by decide) (fun c_1 => ?_) (fun c_1 => ?_)
      · have ek_1 : k_1 = 1024 := Nat.le_antisymm hk_1 c_1
        have hs_1 : mf_reckons_L11  m_ways = s_1 := by rw [ek_1] at hst_1; exact hst_1
        have hl := lv_sub hl (l' := _) [1, 2, 3] rfl
        refine lv_iconst (v := 0) hx hb dX7_reckons_31 (by decide) ?_
        refine lv_istore_n (lv' := [(3, .int 0), (2, .int (nI (zpw Wd))), (0, .ref (ad 0)), (1, .int (zb still))]) hx hb dX7_reckons_32 rfl hl (by decide) rfl (fun ls hl => ?_)
        have hlp_2 : ∀ (n k_2 : Nat) (s_2 : (Nat → Int64)), k_2 ≤ zpw Wd → zpw Wd < k_2 + n → zf (mf_reckons_B33 m_at Wd) s_1 k_2 = s_2 → ∀ (H : Heap) (locs : List Loc), va_P G.1 zcl (mW G ad m_status m_top m_bottom m_taped m_size m_token m_from m_end m_value m_faultKind m_faultPlace m_faults m_seen m_depth m_counted m_lead m_round m_tried m_triedMany m_drawn m_ranSteps m_isTold m_marks m_at m_names m_sort m_trayMany m_trays m_tape m_text m_opened m_beside m_then s_2 m_further m_canBe m_loops m_ran m_told0) H → va_D A (mW G ad m_status m_top m_bottom m_taped m_size m_token m_from m_end m_value m_faultKind m_faultPlace m_faults m_seen m_depth m_counted m_lead m_round m_tried m_triedMany m_drawn m_ranSteps m_isTold m_marks m_at m_names m_sort m_trayMany m_trays m_tape m_text m_opened m_beside m_then s_2 m_further m_canBe m_loops m_ran m_told0) → va_S A s.heap H locs → ∀ ls : Array Slot, lv_has ls 7 [(3, .int (nI k_2)), (2, .int (nI (zpw Wd))), (0, .ref (ad 0)), (1, .int (zb still))] → W p l e (zR 4 0 0) s m ([.ref (ad 0), .int (zb still)] : List Value).toArray below meth c H locs 0 0 (MQ below (zQm G (True) (some (.long ((mf_reckons m_at m_ways m_further m_canBe Wd R still).1))) (mW G ad m_status m_top m_bottom m_taped m_size m_token m_from m_end m_value m_faultKind m_faultPlace m_faults m_seen m_depth m_counted m_lead m_round m_tried m_triedMany m_drawn m_ranSteps m_isTold m_marks m_at m_names m_sort m_trayMany m_trays m_tape m_text m_opened m_beside m_then ((mf_reckons m_at m_ways m_further m_canBe Wd R still).2.1) ((mf_reckons m_at m_ways m_further m_canBe Wd R still).2.2.1) ((mf_reckons m_at m_ways m_further m_canBe Wd R still).2.2.2) m_loops m_ran m_told0) A) ([.ref (ad 0), .int (zb still)] : List Value).toArray s 0 0 A) (F0 m 33 ls []) := by
          intro n
          induction n with
          | zero => intro k_2 s_2 h1 h2; exact absurd h2 (by omega)
          | succ n ih_2 =>
            intro k_2 s_2 hk_2 hn_2 hst_2 H locs hP hD hS ls hl
            refine lv_iload_n hx hb dX7_reckons_33 rfl (lv_at hl 0 rfl) ?_
            refine lv_iload_n hx hb dX7_reckons_34 rfl (lv_at hl 1 rfl) ?_
            refine zr_ge k_2 (zpw Wd) (by omega) (by omega) (tgt := 64) hx hb dX7_reckons_35 (by decide) (fun c_2 => ?_) (fun c_2 => ?_)
            · have ek_2 : k_2 = zpw Wd := Nat.le_antisymm hk_2 c_2
              have hs_2 : mf_reckons_L33 m_at Wd s_1 = s_2 := by rw [ek_2] at hst_2; exact hst_2
              have hl := lv_sub hl (l' := _) [1, 2, 3] rfl
              refine lv_iconst (v := 0) hx hb dX7_reckons_64 (by decide) ?_
              refine lv_istore_n (lv' := [(3, .int 0), (2, .int (nI (zpw Wd))), (0, .ref (ad 0)), (1, .int (zb still))]) hx hb dX7_reckons_65 rfl hl (by decide) rfl (fun ls hl => ?_)
              have hlp_4 : ∀ (n k_4 : Nat) (s_4 : (Nat → Int32)), k_4 ≤ 1024 → 1024 < k_4 + n → zf (mf_reckons_B66 s_2) m_canBe k_4 = s_4 → ∀ (H : Heap) (locs : List Loc), va_P G.1 zcl (mW G ad m_status m_top m_bottom m_taped m_size m_token m_from m_end m_value m_faultKind m_faultPlace m_faults m_seen m_depth m_counted m_lead m_round m_tried m_triedMany m_drawn m_ranSteps m_isTold m_marks m_at m_names m_sort m_trayMany m_trays m_tape m_text m_opened m_beside m_then s_2 m_further s_4 m_loops m_ran m_told0) H → va_D A (mW G ad m_status m_top m_bottom m_taped m_size m_token m_from m_end m_value m_faultKind m_faultPlace m_faults m_seen m_depth m_counted m_lead m_round m_tried m_triedMany m_drawn m_ranSteps m_isTold m_marks m_at m_names m_sort m_trayMany m_trays m_tape m_text m_opened m_beside m_then s_2 m_further s_4 m_loops m_ran m_told0) → va_S A s.heap H locs → ∀ ls : Array Slot, lv_has ls 7 [(3, .int (nI k_4)), (2, .int (nI (zpw Wd))), (0, .ref (ad 0)), (1, .int (zb still))] → W p l e (zR 4 0 0) s m ([.ref (ad 0), .int (zb still)] : List Value).toArray below meth c H locs 0 0 (MQ below (zQm G (True) (some (.long ((mf_reckons m_at m_ways m_further m_canBe Wd R still).1))) (mW G ad m_status m_top m_bottom m_taped m_size m_token m_from m_end m_value m_faultKind m_faultPlace m_faults m_seen m_depth m_counted m_lead m_round m_tried m_triedMany m_drawn m_ranSteps m_isTold m_marks m_at m_names m_sort m_trayMany m_trays m_tape m_text m_opened m_beside m_then ((mf_reckons m_at m_ways m_further m_canBe Wd R still).2.1) ((mf_reckons m_at m_ways m_further m_canBe Wd R still).2.2.1) ((mf_reckons m_at m_ways m_further m_canBe Wd R still).2.2.2) m_loops m_ran m_told0) A) ([.ref (ad 0), .int (zb still)] : List Value).toArray s 0 0 A) (F0 m 66 ls []) := by
                intro n
                induction n with
                | zero => intro k_4 s_4 h1 h2; exact absurd h2 (by omega)
                | succ n ih_4 =>
                  intro k_4 s_4 hk_4 hn_4 hst_4 H locs hP hD hS ls hl
                  refine lv_iload_n hx hb dX7_reckons_66 rfl (lv_at hl 0 rfl) ?_
                  refine lv_sipush (v := 1024) hx hb dX7_reckons_67 (by decide) ?_
                  refine zr_ge k_4 1024 (by omega) (by decide) (tgt := 101) hx hb dX7_reckons_70 (by decide) (fun c_4 => ?_) (fun c_4 => ?_)
                  · have ek_4 : k_4 = 1024 := Nat.le_antisymm hk_4 c_4
                    have hs_4 : mf_reckons_L66 s_2 m_canBe = s_4 := by rw [ek_4] at hst_4; exact hst_4
                    have hl := lv_sub hl (l' := _) [1, 2, 3] rfl
                    refine lv_iconst (v := 1) hx hb dX7_reckons_101 (by decide) ?_
                    refine lv_istore_n (lv' := [(3, .int 1), (2, .int (nI (zpw Wd))), (0, .ref (ad 0)), (1, .int (zb still))]) hx hb dX7_reckons_102 rfl hl (by decide) rfl (fun ls hl => ?_)
                    have hx_6 : ∀ t_6 : Nat × (Nat → Int64) × (Nat → Int64) × (Nat → Int32), mf_reckons_L103 m_at Wd R still (1, s_2, m_further, s_4) = t_6 → ∀ (H : Heap) (locs : List Loc), va_P G.1 zcl (mW G ad m_status m_top m_bottom m_taped m_size m_token m_from m_end m_value m_faultKind m_faultPlace m_faults m_seen m_depth m_counted m_lead m_round m_tried m_triedMany m_drawn m_ranSteps m_isTold m_marks m_at m_names m_sort m_trayMany m_trays m_tape m_text m_opened m_beside m_then t_6.2.1 t_6.2.2.1 t_6.2.2.2 m_loops m_ran m_told0) H → va_D A (mW G ad m_status m_top m_bottom m_taped m_size m_token m_from m_end m_value m_faultKind m_faultPlace m_faults m_seen m_depth m_counted m_lead m_round m_tried m_triedMany m_drawn m_ranSteps m_isTold m_marks m_at m_names m_sort m_trayMany m_trays m_tape m_text m_opened m_beside m_then t_6.2.1 t_6.2.2.1 t_6.2.2.2 m_loops m_ran m_told0) → va_S A s.heap H locs → ∀ ls : Array Slot, lv_has ls 7 [(2, .int (nI (zpw Wd))), (0, .ref (ad 0)), (1, .int (zb still))] → W p l e (zR 4 0 0) s m ([.ref (ad 0), .int (zb still)] : List Value).toArray below meth c H locs 0 0 (MQ below (zQm G (True) (some (.long ((mf_reckons m_at m_ways m_further m_canBe Wd R still).1))) (mW G ad m_status m_top m_bottom m_taped m_size m_token m_from m_end m_value m_faultKind m_faultPlace m_faults m_seen m_depth m_counted m_lead m_round m_tried m_triedMany m_drawn m_ranSteps m_isTold m_marks m_at m_names m_sort m_trayMany m_trays m_tape m_text m_opened m_beside m_then ((mf_reckons m_at m_ways m_further m_canBe Wd R still).2.1) ((mf_reckons m_at m_ways m_further m_canBe Wd R still).2.2.1) ((mf_reckons m_at m_ways m_further m_canBe Wd R still).2.2.2) m_loops m_ran m_told0) A) ([.ref (ad 0), .int (zb still)] : List Value).toArray s 0 0 A) (F0 m 327 ls []) := by
                      intro t_6 ht_6 H locs hP hD hS ls hl
                      refine lv_lconst (v := 0) hx hb dX7_reckons_327 rfl ?_
                      refine lv_lstore_n (lv' := [(3, .long 0), (2, .int (nI (zpw Wd))), (0, .ref (ad 0)), (1, .int (zb still))]) hx hb dX7_reckons_328 rfl hl (by decide) rfl (fun ls hl => ?_)
                      refine lv_iconst (v := 0) hx hb dX7_reckons_329 (by decide) ?_
                      refine lv_istore (lv' := [(5, .int 0), (3, .long 0), (2, .int (nI (zpw Wd))), (0, .ref (ad 0)), (1, .int (zb still))]) hx hb dX7_reckons_330 hl (by decide) rfl (fun ls hl => ?_)
                      have hlp_17 : ∀ (n k_17 : Nat) (s_17 : Int64), k_17 ≤ zpw Wd → zpw Wd < k_17 + n → zf (mf_reckons_B332 m_at Wd R still t_6) 0 k_17 = s_17 → ∀ (H : Heap) (locs : List Loc), va_P G.1 zcl (mW G ad m_status m_top m_bottom m_taped m_size m_token m_from m_end m_value m_faultKind m_faultPlace m_faults m_seen m_depth m_counted m_lead m_round m_tried m_triedMany m_drawn m_ranSteps m_isTold m_marks m_at m_names m_sort m_trayMany m_trays m_tape m_text m_opened m_beside m_then t_6.2.1 t_6.2.2.1 t_6.2.2.2 m_loops m_ran m_told0) H → va_D A (mW G ad m_status m_top m_bottom m_taped m_size m_token m_from m_end m_value m_faultKind m_faultPlace m_faults m_seen m_depth m_counted m_lead m_round m_tried m_triedMany m_drawn m_ranSteps m_isTold m_marks m_at m_names m_sort m_trayMany m_trays m_tape m_text m_opened m_beside m_then t_6.2.1 t_6.2.2.1 t_6.2.2.2 m_loops m_ran m_told0) → va_S A s.heap H locs → ∀ ls : Array Slot, lv_has ls 7 [(5, .int (nI k_17)), (3, .long s_17), (2, .int (nI (zpw Wd))), (0, .ref (ad 0)), (1, .int (zb still))] → W p l e (zR 4 0 0) s m ([.ref (ad 0), .int (zb still)] : List Value).toArray below meth c H locs 0 0 (MQ below (zQm G (True) (some (.long ((mf_reckons m_at m_ways m_further m_canBe Wd R still).1))) (mW G ad m_status m_top m_bottom m_taped m_size m_token m_from m_end m_value m_faultKind m_faultPlace m_faults m_seen m_depth m_counted m_lead m_round m_tried m_triedMany m_drawn m_ranSteps m_isTold m_marks m_at m_names m_sort m_trayMany m_trays m_tape m_text m_opened m_beside m_then ((mf_reckons m_at m_ways m_further m_canBe Wd R still).2.1) ((mf_reckons m_at m_ways m_further m_canBe Wd R still).2.2.1) ((mf_reckons m_at m_ways m_further m_canBe Wd R still).2.2.2) m_loops m_ran m_told0) A) ([.ref (ad 0), .int (zb still)] : List Value).toArray s 0 0 A) (F0 m 332 ls []) := by
                        intro n
                        induction n with
                        | zero => intro k_17 s_17 h1 h2; exact absurd h2 (by omega)
                        | succ n ih_17 =>
                          intro k_17 s_17 hk_17 hn_17 hst_17 H locs hP hD hS ls hl
                          refine lv_iload hx hb dX7_reckons_332 (lv_at hl 0 rfl) ?_
                          refine lv_iload_n hx hb dX7_reckons_334 rfl (lv_at hl 2 rfl) ?_
                          refine zr_ge k_17 (zpw Wd) (by omega) (by omega) (tgt := 418) hx hb dX7_reckons_335 (by decide) (fun c_17 => ?_) (fun c_17 => ?_)
                          · have ek_17 : k_17 = zpw Wd := Nat.le_antisymm hk_17 c_17
                            have hs_17 : mf_reckons_L332 m_at Wd R still t_6 0 = s_17 := by rw [ek_17] at hst_17; exact hst_17
                            have hl := lv_sub hl (l' := _) [1, 2, 3, 4] rfl
                            refine lv_lload_n hx hb dX7_reckons_418 rfl (lv_at hl 0 rfl) ?_
                            have e_ : mf_reckons m_at m_ways m_further m_canBe Wd R still = (s_17, t_6.2.1, t_6.2.2.1, t_6.2.2.2) := by rw [mf_reckons, zlet_eq hs_1, zlet_eq hs_2, zlet_eq hs_4, zlet_eq ht_6, zlet_eq hs_17]
                            exact zr_ml hx hb hr hlocks hP hD hS dX7_reckons_419 (by rw [e_])  (by rw [e_]) trivial
                          · have hlt_17 : k_17 < zpw Wd := Nat.lt_of_not_le c_17
                            refine lv_iconst (v := 0) hx hb dX7_reckons_338 (by decide) ?_
                            refine lv_istore (lv' := [(6, .int 0), (5, .int (nI k_17)), (3, .long s_17), (2, .int (nI (zpw Wd))), (0, .ref (ad 0)), (1, .int (zb still))]) hx hb dX7_reckons_339 hl (by decide) rfl (fun ls hl => ?_)
                            have hlp_18 : ∀ (n k_18 : Nat) (s_18 : Int64), k_18 ≤ zpw Wd → zpw Wd < k_18 + n → zf (mf_reckons_B341 m_at Wd R still t_6 k_17) s_17 k_18 = s_18 → ∀ (H : Heap) (locs : List Loc), va_P G.1 zcl (mW G ad m_status m_top m_bottom m_taped m_size m_token m_from m_end m_value m_faultKind m_faultPlace m_faults m_seen m_depth m_counted m_lead m_round m_tried m_triedMany m_drawn m_ranSteps m_isTold m_marks m_at m_names m_sort m_trayMany m_trays m_tape m_text m_opened m_beside m_then t_6.2.1 t_6.2.2.1 t_6.2.2.2 m_loops m_ran m_told0) H → va_D A (mW G ad m_status m_top m_bottom m_taped m_size m_token m_from m_end m_value m_faultKind m_faultPlace m_faults m_seen m_depth m_counted m_lead m_round m_tried m_triedMany m_drawn m_ranSteps m_isTold m_marks m_at m_names m_sort m_trayMany m_trays m_tape m_text m_opened m_beside m_then t_6.2.1 t_6.2.2.1 t_6.2.2.2 m_loops m_ran m_told0) → va_S A s.heap H locs → ∀ ls : Array Slot, lv_has ls 7 [(6, .int (nI k_18)), (5, .int (nI k_17)), (3, .long s_18), (2, .int (nI (zpw Wd))), (0, .ref (ad 0)), (1, .int (zb still))] → W p l e (zR 4 0 0) s m ([.ref (ad 0), .int (zb still)] : List Value).toArray below meth c H locs 0 0 (MQ below (zQm G (True) (some (.long ((mf_reckons m_at m_ways m_further m_canBe Wd R still).1))) (mW G ad m_status m_top m_bottom m_taped m_size m_token m_from m_end m_value m_faultKind m_faultPlace m_faults m_seen m_depth m_counted m_lead m_round m_tried m_triedMany m_drawn m_ranSteps m_isTold m_marks m_at m_names m_sort m_trayMany m_trays m_tape m_text m_opened m_beside m_then ((mf_reckons m_at m_ways m_further m_canBe Wd R still).2.1) ((mf_reckons m_at m_ways m_further m_canBe Wd R still).2.2.1) ((mf_reckons m_at m_ways m_further m_canBe Wd R still).2.2.2) m_loops m_ran m_told0) A) ([.ref (ad 0), .int (zb still)] : List Value).toArray s 0 0 A) (F0 m 341 ls []) := by
                              intro n
                              induction n with
                              | zero => intro k_18 s_18 h1 h2; exact absurd h2 (by omega)
                              | succ n ih_18 =>
                                intro k_18 s_18 hk_18 hn_18 hst_18 H locs hP hD hS ls hl
                                refine lv_iload hx hb dX7_reckons_341 (lv_at hl 0 rfl) ?_
                                refine lv_iload_n hx hb dX7_reckons_343 rfl (lv_at hl 3 rfl) ?_
                                refine zr_ge k_18 (zpw Wd) (by omega) (by omega) (tgt := 412) hx hb dX7_reckons_344 (by decide) (fun c_18 => ?_) (fun c_18 => ?_)
                                · have ek_18 : k_18 = zpw Wd := Nat.le_antisymm hk_18 c_18
                                  have hs_18 : mf_reckons_L341 m_at Wd R still t_6 k_17 s_17 = s_18 := by rw [ek_18] at hst_18; exact hst_18
                                  have hl := lv_sub hl (l' := _) [1, 2, 3, 4, 5] rfl
                                  refine lv_iinc (v := nI (k_17 + 1)) (lv' := [(5, .int (nI (k_17 + 1))), (3, .long s_18), (2, .int (nI (zpw Wd))), (0, .ref (ad 0)), (1, .int (zb still))]) hx hb dX7_reckons_412 hl (k := 0) rfl (nI_add k_17 1) (by decide) rfl (fun ls hl => ?_)
                                  refine lv_goto (tgt := 332) hx hb dX7_reckons_415 (by decide) ?_
                                  exact ih_17 (k_17 + 1) s_18 hlt_17 (by omega) (zf_s hst_17 (by rw [mf_reckons_B332, zlet_eq hs_18])) H locs hP hD hS ls (lv_sub hl [0, 1, 2, 3, 4] rfl)
                                · have hlt_18 : k_18 < zpw Wd := Nat.lt_of_not_le c_18
                                  refine lv_lload_n hx hb dX7_reckons_347 rfl (lv_at hl 2 rfl) ?_
                                  refine lv_aload_n hx hb dX7_reckons_348 rfl (lv_at hl 4 rfl) ?_
                                  refine va_get (D := G.1) (ci := 7) (v := .ref (ad 11)) (C := RX7) (T := TX7) (N := 39) hx hb hts in_X7 hown hK.1 hP 0 rfl rfl 27 (Nat.le_of_ble_eq_true rfl) (hts _ q1494) (fun _ h => h) rfl dX7_reckons_349 ?_
                                  refine lv_bipush (v := 32) hx hb dX7_reckons_352 (by decide) ?_
                                  refine lv_iload hx hb dX7_reckons_354 (lv_at hl 1 rfl) ?_
                                  refine zr_imulN 32 k_17 hx hb dX7_reckons_356 ?_
                                  refine lv_iload hx hb dX7_reckons_357 (lv_at hl 0 rfl) ?_
                                  refine zr_iaddN (32 * k_17) k_18 hx hb dX7_reckons_359 ?_
                                  refine zr_val (v' := .int (nI (32 * k_17 + k_18))) (by rfl) ?_
                                  refine zr_lald (32 * k_17 + k_18) (v := t_6.2.1 (32 * k_17 + k_18)) hx hb hK hP 11 rfl rfl (Nat.le_of_ble_eq_true rfl) rfl (by omega) rfl dX7_reckons_360 ?_
                                  refine lv_lconst (v := 0) hx hb dX7_reckons_361 rfl ?_
                                  refine W.lcmp hx hb dX7_reckons_362 ?_
                                  refine zr_lle (tgt := 403) hx hb dX7_reckons_363 (by decide) (fun c_19 => ?_) (fun c_19 => ?_)
                                  · refine lv_lconst (v := 0) hx hb dX7_reckons_403 rfl ?_
                                    refine lv_ladd hx hb dX7_reckons_404 ?_
                                    refine lv_lstore_n (lv' := [(3, .long (s_18 + 0)), (6, .int (nI k_18)), (5, .int (nI k_17)), (2, .int (nI (zpw Wd))), (0, .ref (ad 0)), (1, .int (zb still))]) hx hb dX7_reckons_405 rfl hl (by decide) rfl (fun ls hl => ?_)
                                    refine lv_iinc (v := nI (k_18 + 1)) (lv' := [(6, .int (nI (k_18 + 1))), (3, .long (s_18 + 0)), (5, .int (nI k_17)), (2, .int (nI (zpw Wd))), (0, .ref (ad 0)), (1, .int (zb still))]) hx hb dX7_reckons_406 hl (k := 1) rfl (nI_add k_18 1) (by decide) rfl (fun ls hl => ?_)
                                    refine lv_goto (tgt := 341) hx hb dX7_reckons_409 (by decide) ?_
                                    exact ih_18 (k_18 + 1) (s_18 + 0) hlt_18 (by omega) (zf_s hst_18 (by rw [mf_reckons_B341, if_neg c_19])) H locs hP hD hS ls (lv_sub hl [0, 2, 1, 3, 4, 5] rfl)
                                  · refine lv_aload_n hx hb dX7_reckons_366 rfl (lv_at hl 4 rfl) ?_
                                    refine lv_iload hx hb dX7_reckons_367 (lv_at hl 1 rfl) ?_
                                    refine lv_iload hx hb dX7_reckons_369 (lv_at hl 0 rfl) ?_
                                    refine lv_iconst (v := 0) hx hb dX7_reckons_371 (by decide) ?_
                                    refine lv_aload_n hx hb dX7_reckons_372 rfl (lv_at hl 4 rfl) ?_
                                    refine va_get (D := G.1) (ci := 7) (v := .ref (ad 1)) (C := RX7) (T := TX7) (N := 39) hx hb hts in_X7 hown hK.1 hP 0 rfl rfl 0 (Nat.le_of_ble_eq_true rfl) (hts _ q1467) (fun _ h => h) rfl dX7_reckons_373 ?_
                                    refine lv_iconst (v := 1) hx hb dX7_reckons_376 (by decide) ?_
                                    refine zr_iald 1 (v := nI R) hx hb hK hP 1 rfl rfl (Nat.le_of_ble_eq_true rfl) rfl (by decide) (mOK_r hG) dX7_reckons_377 ?_
                                    refine lv_iconst (v := 1) hx hb dX7_reckons_378 (by decide) ?_
                                    refine zr_isubN R 1 (by omega) hx hb dX7_reckons_379 ?_
                                    refine lv_iload_n hx hb dX7_reckons_380 rfl (lv_at hl 5 rfl) ?_
                                    refine zr_obV ⟨hx, hb, hml, hown, hts⟩ (mt_mf_isGood l G ad m_status m_top m_bottom m_taped m_size m_token m_from m_end m_value m_faultKind m_faultPlace m_faults m_seen m_depth m_counted m_lead m_round m_tried m_triedMany m_drawn m_ranSteps m_isTold m_marks m_at m_names m_sort m_trayMany m_trays m_tape m_text m_opened m_beside m_then t_6.2.1 t_6.2.2.1 t_6.2.2.2 m_loops m_ran m_told0 Wd R nr nc (nI k_17) (nI k_18) 0 (nI (R - 1)) still hG) (cwV 5 hts (lw_V q1960 q1962 qs113 q144 q1963) rfl rfl rfl hd_X7_isGood ⟨(Nat.le_of_ble_eq_true rfl), (Nat.le_of_ble_eq_true rfl)⟩) hP hK (zE_o hE hS) 0 7 rfl rfl rfl hl.1 rfl (Nat.le_of_ble_eq_true rfl) dX7_reckons_381 ⟨Nat.le_refl _, Nat.le_refl _⟩ ?_
                                    refine zr_eqB (mf_isGood m_at Wd (nI k_17) (nI k_18) 0 (nI (R - 1)) still) (tgt := 403) hx hb dX7_reckons_384 (by decide) (fun c_20 => ?_) (fun c_20 => ?_)
                                    · refine lv_lconst (v := 0) hx hb dX7_reckons_403 rfl ?_
                                      refine lv_ladd hx hb dX7_reckons_404 ?_
                                      refine lv_lstore_n (lv' := [(3, .long (s_18 + 0)), (6, .int (nI k_18)), (5, .int (nI k_17)), (2, .int (nI (zpw Wd))), (0, .ref (ad 0)), (1, .int (zb still))]) hx hb dX7_reckons_405 rfl hl (by decide) rfl (fun ls hl => ?_)
                                      refine lv_iinc (v := nI (k_18 + 1)) (lv' := [(6, .int (nI (k_18 + 1))), (3, .long (s_18 + 0)), (5, .int (nI k_17)), (2, .int (nI (zpw Wd))), (0, .ref (ad 0)), (1, .int (zb still))]) hx hb dX7_reckons_406 hl (k := 1) rfl (nI_add k_18 1) (by decide) rfl (fun ls hl => ?_)
                                      refine lv_goto (tgt := 341) hx hb dX7_reckons_409 (by decide) ?_
                                      exact ih_18 (k_18 + 1) (s_18 + 0) hlt_18 (by omega) (zf_s hst_18 (by rw [mf_reckons_B341, if_pos c_19, if_neg c_20])) H locs hP hD hS ls (lv_sub hl [0, 2, 1, 3, 4, 5] rfl)
                                    · refine lv_aload_n hx hb dX7_reckons_387 rfl (lv_at hl 4 rfl) ?_
                                      refine va_get (D := G.1) (ci := 7) (v := .ref (ad 11)) (C := RX7) (T := TX7) (N := 39) hx hb hts in_X7 hown hK.1 hP 0 rfl rfl 27 (Nat.le_of_ble_eq_true rfl) (hts _ q1494) (fun _ h => h) rfl dX7_reckons_388 ?_
                                      refine lv_bipush (v := 32) hx hb dX7_reckons_391 (by decide) ?_
                                      refine lv_iload hx hb dX7_reckons_393 (lv_at hl 1 rfl) ?_
                                      refine zr_imulN 32 k_17 hx hb dX7_reckons_395 ?_
                                      refine lv_iload hx hb dX7_reckons_396 (lv_at hl 0 rfl) ?_
                                      refine zr_iaddN (32 * k_17) k_18 hx hb dX7_reckons_398 ?_
                                      refine zr_val (v' := .int (nI (32 * k_17 + k_18))) (by rfl) ?_
                                      refine zr_lald (32 * k_17 + k_18) (v := t_6.2.1 (32 * k_17 + k_18)) hx hb hK hP 11 rfl rfl (Nat.le_of_ble_eq_true rfl) rfl (by omega) rfl dX7_reckons_399 ?_
                                      refine lv_goto (tgt := 404) hx hb dX7_reckons_400 (by decide) ?_
                                      refine lv_ladd hx hb dX7_reckons_404 ?_
                                      refine lv_lstore_n (lv' := [(3, .long (s_18 + (t_6.2.1 (32 * k_17 + k_18)))), (6, .int (nI k_18)), (5, .int (nI k_17)), (2, .int (nI (zpw Wd))), (0, .ref (ad 0)), (1, .int (zb still))]) hx hb dX7_reckons_405 rfl hl (by decide) rfl (fun ls hl => ?_)
                                      refine lv_iinc (v := nI (k_18 + 1)) (lv' := [(6, .int (nI (k_18 + 1))), (3, .long (s_18 + (t_6.2.1 (32 * k_17 + k_18)))), (5, .int (nI k_17)), (2, .int (nI (zpw Wd))), (0, .ref (ad 0)), (1, .int (zb still))]) hx hb dX7_reckons_406 hl (k := 1) rfl (nI_add k_18 1) (by decide) rfl (fun ls hl => ?_)
                                      refine lv_goto (tgt := 341) hx hb dX7_reckons_409 (by decide) ?_
                                      exact ih_18 (k_18 + 1) (s_18 + (t_6.2.1 (32 * k_17 + k_18))) hlt_18 (by omega) (zf_s hst_18 (by rw [mf_reckons_B341, if_pos c_19, if_pos c_20])) H locs hP hD hS ls (lv_sub hl [0, 2, 1, 3, 4, 5] rfl)
                            exact hlp_18 ((zpw Wd) + 1) 0 s_17 (Nat.zero_le _) (by omega) rfl H locs hP hD hS ls (lv_sub hl [0, 1, 2, 3, 4, 5] rfl)
                      exact hlp_17 ((zpw Wd) + 1) 0 0 (Nat.zero_le _) (by omega) rfl H locs hP hD hS ls (lv_sub hl [0, 1, 2, 3, 4] rfl)
                    have hlp_6 : ∀ (n : Nat) (s_6 : Nat × (Nat → Int64) × (Nat → Int64) × (Nat → Int32)), R - s_6.1 < n → zw (mf_reckons_B103 m_at Wd R still) (1, s_2, m_further, s_4) n s_6 = mf_reckons_L103 m_at Wd R still (1, s_2, m_further, s_4) → 1 ≤ s_6.1 ∧ s_6.1 ≤ R → ∀ (H : Heap) (locs : List Loc), va_P G.1 zcl (mW G ad m_status m_top m_bottom m_taped m_size m_token m_from m_end m_value m_faultKind m_faultPlace m_faults m_seen m_depth m_counted m_lead m_round m_tried m_triedMany m_drawn m_ranSteps m_isTold m_marks m_at m_names m_sort m_trayMany m_trays m_tape m_text m_opened m_beside m_then s_6.2.1 s_6.2.2.1 s_6.2.2.2 m_loops m_ran m_told0) H → va_D A (mW G ad m_status m_top m_bottom m_taped m_size m_token m_from m_end m_value m_faultKind m_faultPlace m_faults m_seen m_depth m_counted m_lead m_round m_tried m_triedMany m_drawn m_ranSteps m_isTold m_marks m_at m_names m_sort m_trayMany m_trays m_tape m_text m_opened m_beside m_then s_6.2.1 s_6.2.2.1 s_6.2.2.2 m_loops m_ran m_told0) → va_S A s.heap H locs → ∀ ls : Array Slot, lv_has ls 7 [(3, .int (nI s_6.1)), (2, .int (nI (zpw Wd))), (0, .ref (ad 0)), (1, .int (zb still))] → W p l e (zR 4 0 0) s m ([.ref (ad 0), .int (zb still)] : List Value).toArray below meth c H locs 0 0 (MQ below (zQm G (True) (some (.long ((mf_reckons m_at m_ways m_further m_canBe Wd R still).1))) (mW G ad m_status m_top m_bottom m_taped m_size m_token m_from m_end m_value m_faultKind m_faultPlace m_faults m_seen m_depth m_counted m_lead m_round m_tried m_triedMany m_drawn m_ranSteps m_isTold m_marks m_at m_names m_sort m_trayMany m_trays m_tape m_text m_opened m_beside m_then ((mf_reckons m_at m_ways m_further m_canBe Wd R still).2.1) ((mf_reckons m_at m_ways m_further m_canBe Wd R still).2.2.1) ((mf_reckons m_at m_ways m_further m_canBe Wd R still).2.2.2) m_loops m_ran m_told0) A) ([.ref (ad 0), .int (zb still)] : List Value).toArray s 0 0 A) (F0 m 103 ls []) := by
                      intro n
                      induction n with
                      | zero => exact fun _ h => absurd h (Nat.not_lt_zero _)
                      | succ n ih_6 =>
                        intro s_6 hmu_6 hR_6 hi3 H locs hP hD hS ls hl
                        refine lv_iload_n hx hb dX7_reckons_103 rfl (lv_at hl 0 rfl) ?_
                        refine lv_aload_n hx hb dX7_reckons_104 rfl (lv_at hl 2 rfl) ?_
                        refine va_get (D := G.1) (ci := 7) (v := .ref (ad 1)) (C := RX7) (T := TX7) (N := 39) hx hb hts in_X7 hown hK.1 hP 0 rfl rfl 0 (Nat.le_of_ble_eq_true rfl) (hts _ q1467) (fun _ h => h) rfl dX7_reckons_105 ?_
                        refine lv_iconst (v := 1) hx hb dX7_reckons_108 (by decide) ?_
                        refine zr_iald 1 (v := nI R) hx hb hK hP 1 rfl rfl (Nat.le_of_ble_eq_true rfl) rfl (by decide) (mOK_r hG) dX7_reckons_109 ?_
                        refine zr_ge s_6.1 R (by omega) (by omega) (tgt := 327) hx hb dX7_reckons_110 (by decide) (fun c_7 => ?_) (fun c_7 => ?_)
                        · exact hx_6 (s_6.1, s_6.2.1, s_6.2.2.1, s_6.2.2.2) (hR_6.symm.trans (zw_r (by rw [mf_reckons_B103, if_pos c_7]))) H locs hP hD hS ls (lv_sub hl [1, 2, 3] rfl)
                        · refine lv_iconst (v := 0) hx hb dX7_reckons_113 (by decide) ?_
                          refine lv_istore (lv' := [(4, .int 0), (3, .int (nI s_6.1)), (2, .int (nI (zpw Wd))), (0, .ref (ad 0)), (1, .int (zb still))]) hx hb dX7_reckons_114 hl (by decide) rfl (fun ls hl => ?_)
                          have hlp_8 : ∀ (n k_8 : Nat) (s_8 : (Nat → Int64)), k_8 ≤ 1024 → 1024 < k_8 + n → zf (mf_reckons_B116 ) s_6.2.2.1 k_8 = s_8 → ∀ (H : Heap) (locs : List Loc), va_P G.1 zcl (mW G ad m_status m_top m_bottom m_taped m_size m_token m_from m_end m_value m_faultKind m_faultPlace m_faults m_seen m_depth m_counted m_lead m_round m_tried m_triedMany m_drawn m_ranSteps m_isTold m_marks m_at m_names m_sort m_trayMany m_trays m_tape m_text m_opened m_beside m_then s_6.2.1 s_8 s_6.2.2.2 m_loops m_ran m_told0) H → va_D A (mW G ad m_status m_top m_bottom m_taped m_size m_token m_from m_end m_value m_faultKind m_faultPlace m_faults m_seen m_depth m_counted m_lead m_round m_tried m_triedMany m_drawn m_ranSteps m_isTold m_marks m_at m_names m_sort m_trayMany m_trays m_tape m_text m_opened m_beside m_then s_6.2.1 s_8 s_6.2.2.2 m_loops m_ran m_told0) → va_S A s.heap H locs → ∀ ls : Array Slot, lv_has ls 7 [(4, .int (nI k_8)), (3, .int (nI s_6.1)), (2, .int (nI (zpw Wd))), (0, .ref (ad 0)), (1, .int (zb still))] → W p l e (zR 4 0 0) s m ([.ref (ad 0), .int (zb still)] : List Value).toArray below meth c H locs 0 0 (MQ below (zQm G (True) (some (.long ((mf_reckons m_at m_ways m_further m_canBe Wd R still).1))) (mW G ad m_status m_top m_bottom m_taped m_size m_token m_from m_end m_value m_faultKind m_faultPlace m_faults m_seen m_depth m_counted m_lead m_round m_tried m_triedMany m_drawn m_ranSteps m_isTold m_marks m_at m_names m_sort m_trayMany m_trays m_tape m_text m_opened m_beside m_then ((mf_reckons m_at m_ways m_further m_canBe Wd R still).2.1) ((mf_reckons m_at m_ways m_further m_canBe Wd R still).2.2.1) ((mf_reckons m_at m_ways m_further m_canBe Wd R still).2.2.2) m_loops m_ran m_told0) A) ([.ref (ad 0), .int (zb still)] : List Value).toArray s 0 0 A) (F0 m 116 ls []) := by
                            intro n
                            induction n with
                            | zero => intro k_8 s_8 h1 h2; exact absurd h2 (by omega)
                            | succ n ih_8 =>
                              intro k_8 s_8 hk_8 hn_8 hst_8 H locs hP hD hS ls hl
                              refine lv_iload hx hb dX7_reckons_116 (lv_at hl 0 rfl) ?_
                              refine lv_sipush (v := 1024) hx hb dX7_reckons_118 (by decide) ?_
                              refine zr_ge k_8 1024 (by omega) (by decide) (tgt := 138) hx hb dX7_reckons_121 (by decide) (fun c_8 => ?_) (fun c_8 => ?_)
                              · have ek_8 : k_8 = 1024 := Nat.le_antisymm hk_8 c_8
                                have hs_8 : mf_reckons_L116  s_6.2.2.1 = s_8 := by rw [ek_8] at hst_8; exact hst_8
                                have hl := lv_sub hl (l' := _) [1, 2, 3, 4] rfl
                                refine lv_iconst (v := 0) hx hb dX7_reckons_138 (by decide) ?_
                                refine lv_istore (lv' := [(4, .int 0), (3, .int (nI s_6.1)), (2, .int (nI (zpw Wd))), (0, .ref (ad 0)), (1, .int (zb still))]) hx hb dX7_reckons_139 hl (by decide) rfl (fun ls hl => ?_)
                                have hlp_9 : ∀ (n k_9 : Nat) (s_9 : (Nat → Int64)), k_9 ≤ zpw Wd → zpw Wd < k_9 + n → zf (mf_reckons_B141 m_at Wd still s_6) s_8 k_9 = s_9 → ∀ (H : Heap) (locs : List Loc), va_P G.1 zcl (mW G ad m_status m_top m_bottom m_taped m_size m_token m_from m_end m_value m_faultKind m_faultPlace m_faults m_seen m_depth m_counted m_lead m_round m_tried m_triedMany m_drawn m_ranSteps m_isTold m_marks m_at m_names m_sort m_trayMany m_trays m_tape m_text m_opened m_beside m_then s_6.2.1 s_9 s_6.2.2.2 m_loops m_ran m_told0) H → va_D A (mW G ad m_status m_top m_bottom m_taped m_size m_token m_from m_end m_value m_faultKind m_faultPlace m_faults m_seen m_depth m_counted m_lead m_round m_tried m_triedMany m_drawn m_ranSteps m_isTold m_marks m_at m_names m_sort m_trayMany m_trays m_tape m_text m_opened m_beside m_then s_6.2.1 s_9 s_6.2.2.2 m_loops m_ran m_told0) → va_S A s.heap H locs → ∀ ls : Array Slot, lv_has ls 7 [(4, .int (nI k_9)), (3, .int (nI s_6.1)), (2, .int (nI (zpw Wd))), (0, .ref (ad 0)), (1, .int (zb still))] → W p l e (zR 4 0 0) s m ([.ref (ad 0), .int (zb still)] : List Value).toArray below meth c H locs 0 0 (MQ below (zQm G (True) (some (.long ((mf_reckons m_at m_ways m_further m_canBe Wd R still).1))) (mW G ad m_status m_top m_bottom m_taped m_size m_token m_from m_end m_value m_faultKind m_faultPlace m_faults m_seen m_depth m_counted m_lead m_round m_tried m_triedMany m_drawn m_ranSteps m_isTold m_marks m_at m_names m_sort m_trayMany m_trays m_tape m_text m_opened m_beside m_then ((mf_reckons m_at m_ways m_further m_canBe Wd R still).2.1) ((mf_reckons m_at m_ways m_further m_canBe Wd R still).2.2.1) ((mf_reckons m_at m_ways m_further m_canBe Wd R still).2.2.2) m_loops m_ran m_told0) A) ([.ref (ad 0), .int (zb still)] : List Value).toArray s 0 0 A) (F0 m 141 ls []) := by
                                  intro n
                                  induction n with
                                  | zero => intro k_9 s_9 h1 h2; exact absurd h2 (by omega)
                                  | succ n ih_9 =>
                                    intro k_9 s_9 hk_9 hn_9 hst_9 H locs hP hD hS ls hl
                                    refine lv_iload hx hb dX7_reckons_141 (lv_at hl 0 rfl) ?_
                                    refine lv_iload_n hx hb dX7_reckons_143 rfl (lv_at hl 2 rfl) ?_
                                    refine zr_ge k_9 (zpw Wd) (by omega) (by omega) (tgt := 260) hx hb dX7_reckons_144 (by decide) (fun c_9 => ?_) (fun c_9 => ?_)
                                    · have ek_9 : k_9 = zpw Wd := Nat.le_antisymm hk_9 c_9
                                      have hs_9 : mf_reckons_L141 m_at Wd still s_6 s_8 = s_9 := by rw [ek_9] at hst_9; exact hst_9
                                      have hl := lv_sub hl (l' := _) [1, 2, 3, 4] rfl
                                      refine lv_iconst (v := 0) hx hb dX7_reckons_260 (by decide) ?_
                                      refine lv_istore (lv' := [(4, .int 0), (3, .int (nI s_6.1)), (2, .int (nI (zpw Wd))), (0, .ref (ad 0)), (1, .int (zb still))]) hx hb dX7_reckons_261 hl (by decide) rfl (fun ls hl => ?_)
                                      have hlp_15 : ∀ (n k_15 : Nat) (s_15 : (Nat → Int64) × (Nat → Int32)), k_15 ≤ 1024 → 1024 < k_15 + n → zf (mf_reckons_B263 s_6 s_9) (s_6.2.1, s_6.2.2.2) k_15 = s_15 → ∀ (H : Heap) (locs : List Loc), va_P G.1 zcl (mW G ad m_status m_top m_bottom m_taped m_size m_token m_from m_end m_value m_faultKind m_faultPlace m_faults m_seen m_depth m_counted m_lead m_round m_tried m_triedMany m_drawn m_ranSteps m_isTold m_marks m_at m_names m_sort m_trayMany m_trays m_tape m_text m_opened m_beside m_then s_15.1 s_9 s_15.2 m_loops m_ran m_told0) H → va_D A (mW G ad m_status m_top m_bottom m_taped m_size m_token m_from m_end m_value m_faultKind m_faultPlace m_faults m_seen m_depth m_counted m_lead m_round m_tried m_triedMany m_drawn m_ranSteps m_isTold m_marks m_at m_names m_sort m_trayMany m_trays m_tape m_text m_opened m_beside m_then s_15.1 s_9 s_15.2 m_loops m_ran m_told0) → va_S A s.heap H locs → ∀ ls : Array Slot, lv_has ls 7 [(4, .int (nI k_15)), (3, .int (nI s_6.1)), (2, .int (nI (zpw Wd))), (0, .ref (ad 0)), (1, .int (zb still))] → W p l e (zR 4 0 0) s m ([.ref (ad 0), .int (zb still)] : List Value).toArray below meth c H locs 0 0 (MQ below (zQm G (True) (some (.long ((mf_reckons m_at m_ways m_further m_canBe Wd R still).1))) (mW G ad m_status m_top m_bottom m_taped m_size m_token m_from m_end m_value m_faultKind m_faultPlace m_faults m_seen m_depth m_counted m_lead m_round m_tried m_triedMany m_drawn m_ranSteps m_isTold m_marks m_at m_names m_sort m_trayMany m_trays m_tape m_text m_opened m_beside m_then ((mf_reckons m_at m_ways m_further m_canBe Wd R still).2.1) ((mf_reckons m_at m_ways m_further m_canBe Wd R still).2.2.1) ((mf_reckons m_at m_ways m_further m_canBe Wd R still).2.2.2) m_loops m_ran m_told0) A) ([.ref (ad 0), .int (zb still)] : List Value).toArray s 0 0 A) (F0 m 263 ls []) := by
                                        intro n
                                        induction n with
                                        | zero => intro k_15 s_15 h1 h2; exact absurd h2 (by omega)
                                        | succ n ih_15 =>
                                          intro k_15 s_15 hk_15 hn_15 hst_15 H locs hP hD hS ls hl
                                          refine lv_iload hx hb dX7_reckons_263 (lv_at hl 0 rfl) ?_
                                          refine lv_sipush (v := 1024) hx hb dX7_reckons_265 (by decide) ?_
                                          refine zr_ge k_15 1024 (by omega) (by decide) (tgt := 321) hx hb dX7_reckons_268 (by decide) (fun c_15 => ?_) (fun c_15 => ?_)
                                          · have ek_15 : k_15 = 1024 := Nat.le_antisymm hk_15 c_15
                                            have hs_15 : mf_reckons_L263 s_6 s_9 (s_6.2.1, s_6.2.2.2) = s_15 := by rw [ek_15] at hst_15; exact hst_15
                                            have hl := lv_sub hl (l' := _) [1, 2, 3, 4] rfl
                                            refine lv_iinc (v := nI (s_6.1 + 1)) (lv' := [(3, .int (nI (s_6.1 + 1))), (2, .int (nI (zpw Wd))), (0, .ref (ad 0)), (1, .int (zb still))]) hx hb dX7_reckons_321 hl (k := 0) rfl (nI_add s_6.1 1) (by decide) rfl (fun ls hl => ?_)
                                            refine lv_goto (tgt := 103) hx hb dX7_reckons_324 (by decide) ?_
                                            exact ih_6 (s_6.1 + 1, s_15.1, s_9, s_15.2) (by omega) ((zw_l (by rw [mf_reckons_B103, if_neg c_7, zlet_eq hs_8, zlet_eq hs_9, zlet_eq hs_15])).symm.trans hR_6) (by omega) H locs hP hD hS ls (lv_sub hl [0, 1, 2, 3] rfl)
                                          · have hlt_15 : k_15 < 1024 := Nat.lt_of_not_le c_15
                                            refine lv_aload_n hx hb dX7_reckons_271 rfl (lv_at hl 3 rfl) ?_
                                            refine va_get (D := G.1) (ci := 7) (v := .ref (ad 11)) (C := RX7) (T := TX7) (N := 39) hx hb hts in_X7 hown hK.1 hP 0 rfl rfl 27 (Nat.le_of_ble_eq_true rfl) (hts _ q1494) (fun _ h => h) rfl dX7_reckons_272 ?_
                                            refine lv_iload hx hb dX7_reckons_275 (lv_at hl 0 rfl) ?_
                                            refine lv_aload_n hx hb dX7_reckons_277 rfl (lv_at hl 3 rfl) ?_
                                            refine va_get (D := G.1) (ci := 7) (v := .ref (ad 12)) (C := RX7) (T := TX7) (N := 39) hx hb hts in_X7 hown hK.1 hP 0 rfl rfl 28 (Nat.le_of_ble_eq_true rfl) (hts _ q1495) (fun _ h => h) rfl dX7_reckons_278 ?_
                                            refine lv_iload hx hb dX7_reckons_281 (lv_at hl 0 rfl) ?_
                                            refine zr_lald k_15 (v := s_9 k_15) hx hb hK hP 12 rfl rfl (Nat.le_of_ble_eq_true rfl) rfl (by omega) rfl dX7_reckons_283 ?_
                                            refine zr_last k_15 (ws' := (mW G ad m_status m_top m_bottom m_taped m_size m_token m_from m_end m_value m_faultKind m_faultPlace m_faults m_seen m_depth m_counted m_lead m_round m_tried m_triedMany m_drawn m_ranSteps m_isTold m_marks m_at m_names m_sort m_trayMany m_trays m_tape m_text m_opened m_beside m_then (vp_updL s_15.1 k_15 (s_9 k_15)) s_9 s_15.2 m_loops m_ran m_told0)) hx hb hK hP hD hS 11 rfl rfl (Nat.le_of_ble_eq_true rfl) rfl (by omega) rfl dX7_reckons_284 (fun H locs hP hD hS => ?_)
                                            refine lv_aload_n hx hb dX7_reckons_285 rfl (lv_at hl 3 rfl) ?_
                                            refine va_get (D := G.1) (ci := 7) (v := .ref (ad 13)) (C := RX7) (T := TX7) (N := 39) hx hb hts in_X7 hown hK.1 hP 0 rfl rfl 29 (Nat.le_of_ble_eq_true rfl) (hts _ q1496) (fun _ h => h) rfl dX7_reckons_286 ?_
                                            refine lv_sipush (v := 1024) hx hb dX7_reckons_289 (by decide) ?_
                                            refine lv_iload_n hx hb dX7_reckons_292 rfl (lv_at hl 1 rfl) ?_
                                            refine zr_imulN 1024 s_6.1 hx hb dX7_reckons_293 ?_
                                            refine lv_iload hx hb dX7_reckons_294 (lv_at hl 0 rfl) ?_
                                            refine zr_iaddN (1024 * s_6.1) k_15 hx hb dX7_reckons_296 ?_
                                            refine zr_val (v' := .int (nI (1024 * s_6.1 + k_15))) (by rfl) ?_
                                            refine lv_aload_n hx hb dX7_reckons_297 rfl (lv_at hl 3 rfl) ?_
                                            refine va_get (D := G.1) (ci := 7) (v := .ref (ad 11)) (C := RX7) (T := TX7) (N := 39) hx hb hts in_X7 hown hK.1 hP 0 rfl rfl 27 (Nat.le_of_ble_eq_true rfl) (hts _ q1494) (fun _ h => h) rfl dX7_reckons_298 ?_
                                            refine lv_iload hx hb dX7_reckons_301 (lv_at hl 0 rfl) ?_
                                            refine zr_lald k_15 (v := (vp_updL s_15.1 k_15 (s_9 k_15)) k_15) hx hb hK hP 11 rfl rfl (Nat.le_of_ble_eq_true rfl) rfl (by omega) rfl dX7_reckons_303 ?_
                                            refine lv_lconst (v := 0) hx hb dX7_reckons_304 rfl ?_
                                            refine W.lcmp hx hb dX7_reckons_305 ?_
                                            refine zr_lle (tgt := 313) hx hb dX7_reckons_306 (by decide) (fun c_16 => ?_) (fun c_16 => ?_)
                                            · refine lv_iconst (v := 0) hx hb dX7_reckons_313 (by decide) ?_
                                              refine zr_iast (1024 * s_6.1 + k_15) (ws' := (mW G ad m_status m_top m_bottom m_taped m_size m_token m_from m_end m_value m_faultKind m_faultPlace m_faults m_seen m_depth m_counted m_lead m_round m_tried m_triedMany m_drawn m_ranSteps m_isTold m_marks m_at m_names m_sort m_trayMany m_trays m_tape m_text m_opened m_beside m_then (vp_updL s_15.1 k_15 (s_9 k_15)) s_9 (upd s_15.2 (1024 * s_6.1 + k_15) 0) m_loops m_ran m_told0)) hx hb hK hP hD hS 13 rfl rfl (Nat.le_of_ble_eq_true rfl) rfl (by omega) rfl dX7_reckons_314 (fun H locs hP hD hS => ?_)
                                              refine lv_iinc (v := nI (k_15 + 1)) (lv' := [(4, .int (nI (k_15 + 1))), (3, .int (nI s_6.1)), (2, .int (nI (zpw Wd))), (0, .ref (ad 0)), (1, .int (zb still))]) hx hb dX7_reckons_315 hl (k := 0) rfl (nI_add k_15 1) (by decide) rfl (fun ls hl => ?_)
                                              refine lv_goto (tgt := 263) hx hb dX7_reckons_318 (by decide) ?_
                                              exact ih_15 (k_15 + 1) (vp_updL s_15.1 k_15 (s_9 k_15), upd s_15.2 (1024 * s_6.1 + k_15) 0) hlt_15 (by omega) (zf_s hst_15 (by rw [mf_reckons_B263, if_neg c_16])) H locs hP hD hS ls (lv_sub hl [0, 1, 2, 3, 4] rfl)
                                            · refine lv_iconst (v := 1) hx hb dX7_reckons_309 (by decide) ?_
                                              refine lv_goto (tgt := 314) hx hb dX7_reckons_310 (by decide) ?_
                                              refine zr_iast (1024 * s_6.1 + k_15) (ws' := (mW G ad m_status m_top m_bottom m_taped m_size m_token m_from m_end m_value m_faultKind m_faultPlace m_faults m_seen m_depth m_counted m_lead m_round m_tried m_triedMany m_drawn m_ranSteps m_isTold m_marks m_at m_names m_sort m_trayMany m_trays m_tape m_text m_opened m_beside m_then (vp_updL s_15.1 k_15 (s_9 k_15)) s_9 (upd s_15.2 (1024 * s_6.1 + k_15) 1) m_loops m_ran m_told0)) hx hb hK hP hD hS 13 rfl rfl (Nat.le_of_ble_eq_true rfl) rfl (by omega) rfl dX7_reckons_314 (fun H locs hP hD hS => ?_)
                                              refine lv_iinc (v := nI (k_15 + 1)) (lv' := [(4, .int (nI (k_15 + 1))), (3, .int (nI s_6.1)), (2, .int (nI (zpw Wd))), (0, .ref (ad 0)), (1, .int (zb still))]) hx hb dX7_reckons_315 hl (k := 0) rfl (nI_add k_15 1) (by decide) rfl (fun ls hl => ?_)
                                              refine lv_goto (tgt := 263) hx hb dX7_reckons_318 (by decide) ?_
                                              exact ih_15 (k_15 + 1) (vp_updL s_15.1 k_15 (s_9 k_15), upd s_15.2 (1024 * s_6.1 + k_15) 1) hlt_15 (by omega) (zf_s hst_15 (by rw [mf_reckons_B263, if_pos c_16])) H locs hP hD hS ls (lv_sub hl [0, 1, 2, 3, 4] rfl)
                                      exact hlp_15 (1024 + 1) 0 (s_6.2.1, s_6.2.2.2) (Nat.zero_le _) (by omega) rfl H locs hP hD hS ls (lv_sub hl [0, 1, 2, 3, 4] rfl)
                                    · have hlt_9 : k_9 < zpw Wd := Nat.lt_of_not_le c_9
                                      refine lv_iconst (v := 0) hx hb dX7_reckons_147 (by decide) ?_
                                      refine lv_istore (lv' := [(5, .int 0), (4, .int (nI k_9)), (3, .int (nI s_6.1)), (2, .int (nI (zpw Wd))), (0, .ref (ad 0)), (1, .int (zb still))]) hx hb dX7_reckons_148 hl (by decide) rfl (fun ls hl => ?_)
                                      have hlp_10 : ∀ (n k_10 : Nat) (s_10 : (Nat → Int64)), k_10 ≤ zpw Wd → zpw Wd < k_10 + n → zf (mf_reckons_B150 m_at Wd still s_6 k_9) s_9 k_10 = s_10 → ∀ (H : Heap) (locs : List Loc), va_P G.1 zcl (mW G ad m_status m_top m_bottom m_taped m_size m_token m_from m_end m_value m_faultKind m_faultPlace m_faults m_seen m_depth m_counted m_lead m_round m_tried m_triedMany m_drawn m_ranSteps m_isTold m_marks m_at m_names m_sort m_trayMany m_trays m_tape m_text m_opened m_beside m_then s_6.2.1 s_10 s_6.2.2.2 m_loops m_ran m_told0) H → va_D A (mW G ad m_status m_top m_bottom m_taped m_size m_token m_from m_end m_value m_faultKind m_faultPlace m_faults m_seen m_depth m_counted m_lead m_round m_tried m_triedMany m_drawn m_ranSteps m_isTold m_marks m_at m_names m_sort m_trayMany m_trays m_tape m_text m_opened m_beside m_then s_6.2.1 s_10 s_6.2.2.2 m_loops m_ran m_told0) → va_S A s.heap H locs → ∀ ls : Array Slot, lv_has ls 7 [(5, .int (nI k_10)), (4, .int (nI k_9)), (3, .int (nI s_6.1)), (2, .int (nI (zpw Wd))), (0, .ref (ad 0)), (1, .int (zb still))] → W p l e (zR 4 0 0) s m ([.ref (ad 0), .int (zb still)] : List Value).toArray below meth c H locs 0 0 (MQ below (zQm G (True) (some (.long ((mf_reckons m_at m_ways m_further m_canBe Wd R still).1))) (mW G ad m_status m_top m_bottom m_taped m_size m_token m_from m_end m_value m_faultKind m_faultPlace m_faults m_seen m_depth m_counted m_lead m_round m_tried m_triedMany m_drawn m_ranSteps m_isTold m_marks m_at m_names m_sort m_trayMany m_trays m_tape m_text m_opened m_beside m_then ((mf_reckons m_at m_ways m_further m_canBe Wd R still).2.1) ((mf_reckons m_at m_ways m_further m_canBe Wd R still).2.2.1) ((mf_reckons m_at m_ways m_further m_canBe Wd R still).2.2.2) m_loops m_ran m_told0) A) ([.ref (ad 0), .int (zb still)] : List Value).toArray s 0 0 A) (F0 m 150 ls []) := by
                                        intro n
                                        induction n with
                                        | zero => intro k_10 s_10 h1 h2; exact absurd h2 (by omega)
                                        | succ n ih_10 =>
                                          intro k_10 s_10 hk_10 hn_10 hst_10 H locs hP hD hS ls hl
                                          refine lv_iload hx hb dX7_reckons_150 (lv_at hl 0 rfl) ?_
                                          refine lv_iload_n hx hb dX7_reckons_152 rfl (lv_at hl 3 rfl) ?_
                                          refine zr_ge k_10 (zpw Wd) (by omega) (by omega) (tgt := 254) hx hb dX7_reckons_153 (by decide) (fun c_10 => ?_) (fun c_10 => ?_)
                                          · have ek_10 : k_10 = zpw Wd := Nat.le_antisymm hk_10 c_10
                                            have hs_10 : mf_reckons_L150 m_at Wd still s_6 k_9 s_9 = s_10 := by rw [ek_10] at hst_10; exact hst_10
                                            have hl := lv_sub hl (l' := _) [1, 2, 3, 4, 5] rfl
                                            refine lv_iinc (v := nI (k_9 + 1)) (lv' := [(4, .int (nI (k_9 + 1))), (3, .int (nI s_6.1)), (2, .int (nI (zpw Wd))), (0, .ref (ad 0)), (1, .int (zb still))]) hx hb dX7_reckons_254 hl (k := 0) rfl (nI_add k_9 1) (by decide) rfl (fun ls hl => ?_)
                                            refine lv_goto (tgt := 141) hx hb dX7_reckons_257 (by decide) ?_
                                            exact ih_9 (k_9 + 1) s_10 hlt_9 (by omega) (zf_s hst_9 (by rw [mf_reckons_B141, zlet_eq hs_10])) H locs hP hD hS ls (lv_sub hl [0, 1, 2, 3, 4] rfl)
                                          · have hlt_10 : k_10 < zpw Wd := Nat.lt_of_not_le c_10
                                            refine lv_aload_n hx hb dX7_reckons_156 rfl (lv_at hl 4 rfl) ?_
                                            refine va_get (D := G.1) (ci := 7) (v := .ref (ad 11)) (C := RX7) (T := TX7) (N := 39) hx hb hts in_X7 hown hK.1 hP 0 rfl rfl 27 (Nat.le_of_ble_eq_true rfl) (hts _ q1494) (fun _ h => h) rfl dX7_reckons_157 ?_
                                            refine lv_bipush (v := 32) hx hb dX7_reckons_160 (by decide) ?_
                                            refine lv_iload hx hb dX7_reckons_162 (lv_at hl 1 rfl) ?_
                                            refine zr_imulN 32 k_9 hx hb dX7_reckons_164 ?_
                                            refine lv_iload hx hb dX7_reckons_165 (lv_at hl 0 rfl) ?_
                                            refine zr_iaddN (32 * k_9) k_10 hx hb dX7_reckons_167 ?_
                                            refine zr_val (v' := .int (nI (32 * k_9 + k_10))) (by rfl) ?_
                                            refine zr_lald (32 * k_9 + k_10) (v := s_6.2.1 (32 * k_9 + k_10)) hx hb hK hP 11 rfl rfl (Nat.le_of_ble_eq_true rfl) rfl (by omega) rfl dX7_reckons_168 ?_
                                            refine lv_lconst (v := 0) hx hb dX7_reckons_169 rfl ?_
                                            refine W.lcmp hx hb dX7_reckons_170 ?_
                                            refine zr_lne (tgt := 177) hx hb dX7_reckons_171 (by decide) (fun c_11 => ?_) (fun c_11 => ?_)
                                            · refine lv_iconst (v := 0) hx hb dX7_reckons_177 (by decide) ?_
                                              refine lv_istore (lv' := [(6, .int 0), (5, .int (nI k_10)), (4, .int (nI k_9)), (3, .int (nI s_6.1)), (2, .int (nI (zpw Wd))), (0, .ref (ad 0)), (1, .int (zb still))]) hx hb dX7_reckons_178 hl (by decide) rfl (fun ls hl => ?_)
                                              have hlp_12 : ∀ (n k_12 : Nat) (s_12 : (Nat → Int64)), k_12 ≤ zpw Wd → zpw Wd < k_12 + n → zf (mf_reckons_B180 m_at Wd still s_6 k_9 k_10) s_10 k_12 = s_12 → ∀ (H : Heap) (locs : List Loc), va_P G.1 zcl (mW G ad m_status m_top m_bottom m_taped m_size m_token m_from m_end m_value m_faultKind m_faultPlace m_faults m_seen m_depth m_counted m_lead m_round m_tried m_triedMany m_drawn m_ranSteps m_isTold m_marks m_at m_names m_sort m_trayMany m_trays m_tape m_text m_opened m_beside m_then s_6.2.1 s_12 s_6.2.2.2 m_loops m_ran m_told0) H → va_D A (mW G ad m_status m_top m_bottom m_taped m_size m_token m_from m_end m_value m_faultKind m_faultPlace m_faults m_seen m_depth m_counted m_lead m_round m_tried m_triedMany m_drawn m_ranSteps m_isTold m_marks m_at m_names m_sort m_trayMany m_trays m_tape m_text m_opened m_beside m_then s_6.2.1 s_12 s_6.2.2.2 m_loops m_ran m_told0) → va_S A s.heap H locs → ∀ ls : Array Slot, lv_has ls 7 [(6, .int (nI k_12)), (5, .int (nI k_10)), (4, .int (nI k_9)), (3, .int (nI s_6.1)), (2, .int (nI (zpw Wd))), (0, .ref (ad 0)), (1, .int (zb still))] → W p l e (zR 4 0 0) s m ([.ref (ad 0), .int (zb still)] : List Value).toArray below meth c H locs 0 0 (MQ below (zQm G (True) (some (.long ((mf_reckons m_at m_ways m_further m_canBe Wd R still).1))) (mW G ad m_status m_top m_bottom m_taped m_size m_token m_from m_end m_value m_faultKind m_faultPlace m_faults m_seen m_depth m_counted m_lead m_round m_tried m_triedMany m_drawn m_ranSteps m_isTold m_marks m_at m_names m_sort m_trayMany m_trays m_tape m_text m_opened m_beside m_then ((mf_reckons m_at m_ways m_further m_canBe Wd R still).2.1) ((mf_reckons m_at m_ways m_further m_canBe Wd R still).2.2.1) ((mf_reckons m_at m_ways m_further m_canBe Wd R still).2.2.2) m_loops m_ran m_told0) A) ([.ref (ad 0), .int (zb still)] : List Value).toArray s 0 0 A) (F0 m 180 ls []) := by
                                                intro n
                                                induction n with
                                                | zero => intro k_12 s_12 h1 h2; exact absurd h2 (by omega)
                                                | succ n ih_12 =>
                                                  intro k_12 s_12 hk_12 hn_12 hst_12 H locs hP hD hS ls hl
                                                  refine lv_iload hx hb dX7_reckons_180 (lv_at hl 0 rfl) ?_
                                                  refine lv_iload_n hx hb dX7_reckons_182 rfl (lv_at hl 4 rfl) ?_
                                                  refine zr_ge k_12 (zpw Wd) (by omega) (by omega) (tgt := 248) hx hb dX7_reckons_183 (by decide) (fun c_12 => ?_) (fun c_12 => ?_)
                                                  · have ek_12 : k_12 = zpw Wd := Nat.le_antisymm hk_12 c_12
                                                    have hs_12 : mf_reckons_L180 m_at Wd still s_6 k_9 k_10 s_10 = s_12 := by rw [ek_12] at hst_12; exact hst_12
                                                    have hl := lv_sub hl (l' := _) [1, 2, 3, 4, 5, 6] rfl
                                                    refine lv_iinc (v := nI (k_10 + 1)) (lv' := [(5, .int (nI (k_10 + 1))), (4, .int (nI k_9)), (3, .int (nI s_6.1)), (2, .int (nI (zpw Wd))), (0, .ref (ad 0)), (1, .int (zb still))]) hx hb dX7_reckons_248 hl (k := 0) rfl (nI_add k_10 1) (by decide) rfl (fun ls hl => ?_)
                                                    refine lv_goto (tgt := 150) hx hb dX7_reckons_251 (by decide) ?_
                                                    exact ih_10 (k_10 + 1) s_12 hlt_10 (by omega) (zf_s hst_10 (by rw [mf_reckons_B150, if_neg c_11, zlet_eq hs_12])) H locs hP hD hS ls (lv_sub hl [0, 1, 2, 3, 4, 5] rfl)
                                                  · have hlt_12 : k_12 < zpw Wd := Nat.lt_of_not_le c_12
                                                    refine lv_aload_n hx hb dX7_reckons_186 rfl (lv_at hl 5 rfl) ?_
                                                    refine lv_iload hx hb dX7_reckons_187 (lv_at hl 0 rfl) ?_
                                                    refine lv_iload_n hx hb dX7_reckons_189 rfl (lv_at hl 3 rfl) ?_
                                                    refine zr_obV ⟨hx, hb, hml, hown, hts⟩ (mt_mf_fitsRow l G ad m_status m_top m_bottom m_taped m_size m_token m_from m_end m_value m_faultKind m_faultPlace m_faults m_seen m_depth m_counted m_lead m_round m_tried m_triedMany m_drawn m_ranSteps m_isTold m_marks m_at m_names m_sort m_trayMany m_trays m_tape m_text m_opened m_beside m_then s_6.2.1 s_12 s_6.2.2.2 m_loops m_ran m_told0 Wd R nr nc (nI k_12) (nI s_6.1) hG) (cwV 2 hts (lw_V q1956 q1958 qs112 q144 q1959) rfl rfl rfl hd_X7_fitsRow ⟨(Nat.le_of_ble_eq_true rfl), (Nat.le_of_ble_eq_true rfl)⟩) hP hK (zE_o hE hS) 0 7 rfl rfl rfl hl.1 rfl (Nat.le_of_ble_eq_true rfl) dX7_reckons_190 ⟨Nat.le_refl _, Nat.le_refl _⟩ ?_
                                                    refine zr_eqB (mf_fitsRow m_at Wd (nI k_12) (nI s_6.1)) (tgt := 242) hx hb dX7_reckons_193 (by decide) (fun c_13 => ?_) (fun c_13 => ?_)
                                                    · refine lv_iinc (v := nI (k_12 + 1)) (lv' := [(6, .int (nI (k_12 + 1))), (5, .int (nI k_10)), (4, .int (nI k_9)), (3, .int (nI s_6.1)), (2, .int (nI (zpw Wd))), (0, .ref (ad 0)), (1, .int (zb still))]) hx hb dX7_reckons_242 hl (k := 0) rfl (nI_add k_12 1) (by decide) rfl (fun ls hl => ?_)
                                                      refine lv_goto (tgt := 180) hx hb dX7_reckons_245 (by decide) ?_
                                                      exact ih_12 (k_12 + 1) s_12 hlt_12 (by omega) (zf_s hst_12 (by rw [mf_reckons_B180, if_neg c_13])) H locs hP hD hS ls (lv_sub hl [0, 1, 2, 3, 4, 5, 6] rfl)
                                                    · refine lv_aload_n hx hb dX7_reckons_196 rfl (lv_at hl 5 rfl) ?_
                                                      refine lv_iload hx hb dX7_reckons_197 (lv_at hl 2 rfl) ?_
                                                      refine lv_iload hx hb dX7_reckons_199 (lv_at hl 1 rfl) ?_
                                                      refine lv_iload hx hb dX7_reckons_201 (lv_at hl 0 rfl) ?_
                                                      refine lv_iload_n hx hb dX7_reckons_203 rfl (lv_at hl 3 rfl) ?_
                                                      refine lv_iconst (v := 1) hx hb dX7_reckons_204 (by decide) ?_
                                                      refine zr_isubN s_6.1 1 (by omega) hx hb dX7_reckons_205 ?_
                                                      refine lv_iload_n hx hb dX7_reckons_206 rfl (lv_at hl 6 rfl) ?_
                                                      refine zr_obV ⟨hx, hb, hml, hown, hts⟩ (mt_mf_isGood l G ad m_status m_top m_bottom m_taped m_size m_token m_from m_end m_value m_faultKind m_faultPlace m_faults m_seen m_depth m_counted m_lead m_round m_tried m_triedMany m_drawn m_ranSteps m_isTold m_marks m_at m_names m_sort m_trayMany m_trays m_tape m_text m_opened m_beside m_then s_6.2.1 s_12 s_6.2.2.2 m_loops m_ran m_told0 Wd R nr nc (nI k_9) (nI k_10) (nI k_12) (nI (s_6.1 - 1)) still hG) (cwV 5 hts (lw_V q1960 q1962 qs113 q144 q1963) rfl rfl rfl hd_X7_isGood ⟨(Nat.le_of_ble_eq_true rfl), (Nat.le_of_ble_eq_true rfl)⟩) hP hK (zE_o hE hS) 0 7 rfl rfl rfl hl.1 rfl (Nat.le_of_ble_eq_true rfl) dX7_reckons_207 ⟨Nat.le_refl _, Nat.le_refl _⟩ ?_
                                                      refine zr_eqB (mf_isGood m_at Wd (nI k_9) (nI k_10) (nI k_12) (nI (s_6.1 - 1)) still) (tgt := 242) hx hb dX7_reckons_210 (by decide) (fun c_14 => ?_) (fun c_14 => ?_)
                                                      · refine lv_iinc (v := nI (k_12 + 1)) (lv' := [(6, .int (nI (k_12 + 1))), (5, .int (nI k_10)), (4, .int (nI k_9)), (3, .int (nI s_6.1)), (2, .int (nI (zpw Wd))), (0, .ref (ad 0)), (1, .int (zb still))]) hx hb dX7_reckons_242 hl (k := 0) rfl (nI_add k_12 1) (by decide) rfl (fun ls hl => ?_)
                                                        refine lv_goto (tgt := 180) hx hb dX7_reckons_245 (by decide) ?_
                                                        exact ih_12 (k_12 + 1) s_12 hlt_12 (by omega) (zf_s hst_12 (by rw [mf_reckons_B180, if_pos c_13, if_neg c_14])) H locs hP hD hS ls (lv_sub hl [0, 1, 2, 3, 4, 5, 6] rfl)
                                                      · refine lv_aload_n hx hb dX7_reckons_213 rfl (lv_at hl 5 rfl) ?_
                                                        refine va_get (D := G.1) (ci := 7) (v := .ref (ad 12)) (C := RX7) (T := TX7) (N := 39) hx hb hts in_X7 hown hK.1 hP 0 rfl rfl 28 (Nat.le_of_ble_eq_true rfl) (hts _ q1495) (fun _ h => h) rfl dX7_reckons_214 ?_
                                                        refine lv_bipush (v := 32) hx hb dX7_reckons_217 (by decide) ?_
                                                        refine lv_iload hx hb dX7_reckons_219 (lv_at hl 1 rfl) ?_
                                                        refine zr_imulN 32 k_10 hx hb dX7_reckons_221 ?_
                                                        refine lv_iload hx hb dX7_reckons_222 (lv_at hl 0 rfl) ?_
                                                        refine zr_iaddN (32 * k_10) k_12 hx hb dX7_reckons_224 ?_
                                                        refine zr_val (v' := .int (nI (32 * k_10 + k_12))) (by rfl) ?_
                                                        refine lv_dup2_11 hx hb dX7_reckons_225 rfl rfl ?_
                                                        refine zr_lald (32 * k_10 + k_12) (v := s_12 (32 * k_10 + k_12)) hx hb hK hP 12 rfl rfl (Nat.le_of_ble_eq_true rfl) rfl (by omega) rfl dX7_reckons_226 ?_
                                                        refine lv_aload_n hx hb dX7_reckons_227 rfl (lv_at hl 5 rfl) ?_
                                                        refine va_get (D := G.1) (ci := 7) (v := .ref (ad 11)) (C := RX7) (T := TX7) (N := 39) hx hb hts in_X7 hown hK.1 hP 0 rfl rfl 27 (Nat.le_of_ble_eq_true rfl) (hts _ q1494) (fun _ h => h) rfl dX7_reckons_228 ?_
                                                        refine lv_bipush (v := 32) hx hb dX7_reckons_231 (by decide) ?_
                                                        refine lv_iload hx hb dX7_reckons_233 (lv_at hl 2 rfl) ?_
                                                        refine zr_imulN 32 k_9 hx hb dX7_reckons_235 ?_
                                                        refine lv_iload hx hb dX7_reckons_236 (lv_at hl 1 rfl) ?_
                                                        refine zr_iaddN (32 * k_9) k_10 hx hb dX7_reckons_238 ?_
                                                        refine zr_val (v' := .int (nI (32 * k_9 + k_10))) (by rfl) ?_
                                                        refine zr_lald (32 * k_9 + k_10) (v := s_6.2.1 (32 * k_9 + k_10)) hx hb hK hP 11 rfl rfl (Nat.le_of_ble_eq_true rfl) rfl (by omega) rfl dX7_reckons_239 ?_
                                                        refine lv_ladd hx hb dX7_reckons_240 ?_
                                                        refine zr_last (32 * k_10 + k_12) (ws' := (mW G ad m_status m_top m_bottom m_taped m_size m_token m_from m_end m_value m_faultKind m_faultPlace m_faults m_seen m_depth m_counted m_lead m_round m_tried m_triedMany m_drawn m_ranSteps m_isTold m_marks m_at m_names m_sort m_trayMany m_trays m_tape m_text m_opened m_beside m_then s_6.2.1 (vp_updL s_12 (32 * k_10 + k_12) ((s_12 (32 * k_10 + k_12)) + (s_6.2.1 (32 * k_9 + k_10)))) s_6.2.2.2 m_loops m_ran m_told0)) hx hb hK hP hD hS 12 rfl rfl (Nat.le_of_ble_eq_true rfl) rfl (by omega) rfl dX7_reckons_241 (fun H locs hP hD hS => ?_)
                                                        refine lv_iinc (v := nI (k_12 + 1)) (lv' := [(6, .int (nI (k_12 + 1))), (5, .int (nI k_10)), (4, .int (nI k_9)), (3, .int (nI s_6.1)), (2, .int (nI (zpw Wd))), (0, .ref (ad 0)), (1, .int (zb still))]) hx hb dX7_reckons_242 hl (k := 0) rfl (nI_add k_12 1) (by decide) rfl (fun ls hl => ?_)
                                                        refine lv_goto (tgt := 180) hx hb dX7_reckons_245 (by decide) ?_
                                                        exact ih_12 (k_12 + 1) (vp_updL s_12 (32 * k_10 + k_12) ((s_12 (32 * k_10 + k_12)) + (s_6.2.1 (32 * k_9 + k_10)))) hlt_12 (by omega) (zf_s hst_12 (by rw [mf_reckons_B180, if_pos c_13, if_pos c_14])) H locs hP hD hS ls (lv_sub hl [0, 1, 2, 3, 4, 5, 6] rfl)
                                              exact hlp_12 ((zpw Wd) + 1) 0 s_10 (Nat.zero_le _) (by omega) rfl H locs hP hD hS ls (lv_sub hl [0, 1, 2, 3, 4, 5, 6] rfl)
                                            · refine lv_goto (tgt := 248) hx hb dX7_reckons_174 (by decide) ?_
                                              refine lv_iinc (v := nI (k_10 + 1)) (lv' := [(5, .int (nI (k_10 + 1))), (4, .int (nI k_9)), (3, .int (nI s_6.1)), (2, .int (nI (zpw Wd))), (0, .ref (ad 0)), (1, .int (zb still))]) hx hb dX7_reckons_248 hl (k := 0) rfl (nI_add k_10 1) (by decide) rfl (fun ls hl => ?_)
                                              refine lv_goto (tgt := 150) hx hb dX7_reckons_251 (by decide) ?_
                                              exact ih_10 (k_10 + 1) s_10 hlt_10 (by omega) (zf_s hst_10 (by rw [mf_reckons_B150, if_pos c_11])) H locs hP hD hS ls (lv_sub hl [0, 1, 2, 3, 4, 5] rfl)
                                      exact hlp_10 ((zpw Wd) + 1) 0 s_9 (Nat.zero_le _) (by omega) rfl H locs hP hD hS ls (lv_sub hl [0, 1, 2, 3, 4, 5] rfl)
                                exact hlp_9 ((zpw Wd) + 1) 0 s_8 (Nat.zero_le _) (by omega) rfl H locs hP hD hS ls (lv_sub hl [0, 1, 2, 3, 4] rfl)
                              · have hlt_8 : k_8 < 1024 := Nat.lt_of_not_le c_8
                                refine lv_aload_n hx hb dX7_reckons_124 rfl (lv_at hl 3 rfl) ?_
                                refine va_get (D := G.1) (ci := 7) (v := .ref (ad 12)) (C := RX7) (T := TX7) (N := 39) hx hb hts in_X7 hown hK.1 hP 0 rfl rfl 28 (Nat.le_of_ble_eq_true rfl) (hts _ q1495) (fun _ h => h) rfl dX7_reckons_125 ?_
                                refine lv_iload hx hb dX7_reckons_128 (lv_at hl 0 rfl) ?_
                                refine lv_lconst (v := 0) hx hb dX7_reckons_130 rfl ?_
                                refine zr_last k_8 (ws' := (mW G ad m_status m_top m_bottom m_taped m_size m_token m_from m_end m_value m_faultKind m_faultPlace m_faults m_seen m_depth m_counted m_lead m_round m_tried m_triedMany m_drawn m_ranSteps m_isTold m_marks m_at m_names m_sort m_trayMany m_trays m_tape m_text m_opened m_beside m_then s_6.2.1 (vp_updL s_8 k_8 0) s_6.2.2.2 m_loops m_ran m_told0)) hx hb hK hP hD hS 12 rfl rfl (Nat.le_of_ble_eq_true rfl) rfl (by omega) rfl dX7_reckons_131 (fun H locs hP hD hS => ?_)
                                refine lv_iinc (v := nI (k_8 + 1)) (lv' := [(4, .int (nI (k_8 + 1))), (3, .int (nI s_6.1)), (2, .int (nI (zpw Wd))), (0, .ref (ad 0)), (1, .int (zb still))]) hx hb dX7_reckons_132 hl (k := 0) rfl (nI_add k_8 1) (by decide) rfl (fun ls hl => ?_)
                                refine lv_goto (tgt := 116) hx hb dX7_reckons_135 (by decide) ?_
                                exact ih_8 (k_8 + 1) (vp_updL s_8 k_8 0) hlt_8 (by omega) (zf_s hst_8 (by rw [mf_reckons_B116])) H locs hP hD hS ls (lv_sub hl [0, 1, 2, 3, 4] rfl)
                          exact hlp_8 (1024 + 1) 0 s_6.2.2.1 (Nat.zero_le _) (by omega) rfl H locs hP hD hS ls (lv_sub hl [0, 1, 2, 3, 4] rfl)
                    exact hlp_6 _ (1, s_2, m_further, s_4) (Nat.lt_succ_self _) (by rw [mf_reckons_L103]) (by omega) H locs hP hD hS ls (lv_sub hl [0, 1, 2, 3] rfl)
                  · have hlt_4 : k_4 < 1024 := Nat.lt_of_not_le c_4
                    refine lv_aload_n hx hb dX7_reckons_73 rfl (lv_at hl 2 rfl) ?_
                    refine va_get (D := G.1) (ci := 7) (v := .ref (ad 13)) (C := RX7) (T := TX7) (N := 39) hx hb hts in_X7 hown hK.1 hP 0 rfl rfl 29 (Nat.le_of_ble_eq_true rfl) (hts _ q1496) (fun _ h => h) rfl dX7_reckons_74 ?_
                    refine lv_iload_n hx hb dX7_reckons_77 rfl (lv_at hl 0 rfl) ?_
                    refine lv_aload_n hx hb dX7_reckons_78 rfl (lv_at hl 2 rfl) ?_
                    refine va_get (D := G.1) (ci := 7) (v := .ref (ad 11)) (C := RX7) (T := TX7) (N := 39) hx hb hts in_X7 hown hK.1 hP 0 rfl rfl 27 (Nat.le_of_ble_eq_true rfl) (hts _ q1494) (fun _ h => h) rfl dX7_reckons_79 ?_
                    refine lv_iload_n hx hb dX7_reckons_82 rfl (lv_at hl 0 rfl) ?_
                    refine zr_lald k_4 (v := s_2 k_4) hx hb hK hP 11 rfl rfl (Nat.le_of_ble_eq_true rfl) rfl (by omega) rfl dX7_reckons_83 ?_
                    refine lv_lconst (v := 0) hx hb dX7_reckons_84 rfl ?_
                    refine W.lcmp hx hb dX7_reckons_85 ?_
                    refine zr_lle (tgt := 93) hx hb dX7_reckons_86 (by decide) (fun c_5 => ?_) (fun c_5 => ?_)
                    · refine lv_iconst (v := 0) hx hb dX7_reckons_93 (by decide) ?_
                      refine zr_iast k_4 (ws' := (mW G ad m_status m_top m_bottom m_taped m_size m_token m_from m_end m_value m_faultKind m_faultPlace m_faults m_seen m_depth m_counted m_lead m_round m_tried m_triedMany m_drawn m_ranSteps m_isTold m_marks m_at m_names m_sort m_trayMany m_trays m_tape m_text m_opened m_beside m_then s_2 m_further (upd s_4 k_4 0) m_loops m_ran m_told0)) hx hb hK hP hD hS 13 rfl rfl (Nat.le_of_ble_eq_true rfl) rfl (by omega) rfl dX7_reckons_94 (fun H locs hP hD hS => ?_)
                      refine lv_iinc (v := nI (k_4 + 1)) (lv' := [(3, .int (nI (k_4 + 1))), (2, .int (nI (zpw Wd))), (0, .ref (ad 0)), (1, .int (zb still))]) hx hb dX7_reckons_95 hl (k := 0) rfl (nI_add k_4 1) (by decide) rfl (fun ls hl => ?_)
                      refine lv_goto (tgt := 66) hx hb dX7_reckons_98 (by decide) ?_
                      exact ih_4 (k_4 + 1) (upd s_4 k_4 0) hlt_4 (by omega) (zf_s hst_4 (by rw [mf_reckons_B66, if_neg c_5])) H locs hP hD hS ls (lv_sub hl [0, 1, 2, 3] rfl)
                    · refine lv_iconst (v := 1) hx hb dX7_reckons_89 (by decide) ?_
                      refine lv_goto (tgt := 94) hx hb dX7_reckons_90 (by decide) ?_
                      refine zr_iast k_4 (ws' := (mW G ad m_status m_top m_bottom m_taped m_size m_token m_from m_end m_value m_faultKind m_faultPlace m_faults m_seen m_depth m_counted m_lead m_round m_tried m_triedMany m_drawn m_ranSteps m_isTold m_marks m_at m_names m_sort m_trayMany m_trays m_tape m_text m_opened m_beside m_then s_2 m_further (upd s_4 k_4 1) m_loops m_ran m_told0)) hx hb hK hP hD hS 13 rfl rfl (Nat.le_of_ble_eq_true rfl) rfl (by omega) rfl dX7_reckons_94 (fun H locs hP hD hS => ?_)
                      refine lv_iinc (v := nI (k_4 + 1)) (lv' := [(3, .int (nI (k_4 + 1))), (2, .int (nI (zpw Wd))), (0, .ref (ad 0)), (1, .int (zb still))]) hx hb dX7_reckons_95 hl (k := 0) rfl (nI_add k_4 1) (by decide) rfl (fun ls hl => ?_)
                      refine lv_goto (tgt := 66) hx hb dX7_reckons_98 (by decide) ?_
                      exact ih_4 (k_4 + 1) (upd s_4 k_4 1) hlt_4 (by omega) (zf_s hst_4 (by rw [mf_reckons_B66, if_pos c_5])) H locs hP hD hS ls (lv_sub hl [0, 1, 2, 3] rfl)
              exact hlp_4 (1024 + 1) 0 m_canBe (Nat.zero_le _) (by omega) rfl H locs hP hD hS ls (lv_sub hl [0, 1, 2, 3] rfl)
            · have hlt_2 : k_2 < zpw Wd := Nat.lt_of_not_le c_2
              refine lv_aload_n hx hb dX7_reckons_38 rfl (lv_at hl 2 rfl) ?_
              refine va_get (D := G.1) (ci := 7) (v := .ref (ad 11)) (C := RX7) (T := TX7) (N := 39) hx hb hts in_X7 hown hK.1 hP 0 rfl rfl 27 (Nat.le_of_ble_eq_true rfl) (hts _ q1494) (fun _ h => h) rfl dX7_reckons_39 ?_
              refine lv_iload_n hx hb dX7_reckons_42 rfl (lv_at hl 0 rfl) ?_
              refine lv_aload_n hx hb dX7_reckons_43 rfl (lv_at hl 2 rfl) ?_
              refine lv_iload_n hx hb dX7_reckons_44 rfl (lv_at hl 0 rfl) ?_
              refine lv_iconst (v := 0) hx hb dX7_reckons_45 (by decide) ?_
              refine zr_obV ⟨hx, hb, hml, hown, hts⟩ (mt_mf_fitsRow l G ad m_status m_top m_bottom m_taped m_size m_token m_from m_end m_value m_faultKind m_faultPlace m_faults m_seen m_depth m_counted m_lead m_round m_tried m_triedMany m_drawn m_ranSteps m_isTold m_marks m_at m_names m_sort m_trayMany m_trays m_tape m_text m_opened m_beside m_then s_2 m_further m_canBe m_loops m_ran m_told0 Wd R nr nc (nI k_2) 0 hG) (cwV 2 hts (lw_V q1956 q1958 qs112 q144 q1959) rfl rfl rfl hd_X7_fitsRow ⟨(Nat.le_of_ble_eq_true rfl), (Nat.le_of_ble_eq_true rfl)⟩) hP hK (zE_o hE hS) 0 7 rfl rfl rfl hl.1 rfl (Nat.le_of_ble_eq_true rfl) dX7_reckons_46 ⟨Nat.le_refl _, Nat.le_refl _⟩ ?_
              refine zr_eqB (mf_fitsRow m_at Wd (nI k_2) 0) (tgt := 56) hx hb dX7_reckons_49 (by decide) (fun c_3 => ?_) (fun c_3 => ?_)
              · refine lv_lconst (v := 0) hx hb dX7_reckons_56 rfl ?_
                refine zr_last k_2 (ws' := (mW G ad m_status m_top m_bottom m_taped m_size m_token m_from m_end m_value m_faultKind m_faultPlace m_faults m_seen m_depth m_counted m_lead m_round m_tried m_triedMany m_drawn m_ranSteps m_isTold m_marks m_at m_names m_sort m_trayMany m_trays m_tape m_text m_opened m_beside m_then (vp_updL s_2 k_2 0) m_further m_canBe m_loops m_ran m_told0)) hx hb hK hP hD hS 11 rfl rfl (Nat.le_of_ble_eq_true rfl) rfl (by omega) rfl dX7_reckons_57 (fun H locs hP hD hS => ?_)
                refine lv_iinc (v := nI (k_2 + 1)) (lv' := [(3, .int (nI (k_2 + 1))), (2, .int (nI (zpw Wd))), (0, .ref (ad 0)), (1, .int (zb still))]) hx hb dX7_reckons_58 hl (k := 0) rfl (nI_add k_2 1) (by decide) rfl (fun ls hl => ?_)
                refine lv_goto (tgt := 33) hx hb dX7_reckons_61 (by decide) ?_
                exact ih_2 (k_2 + 1) (vp_updL s_2 k_2 0) hlt_2 (by omega) (zf_s hst_2 (by rw [mf_reckons_B33, if_neg c_3])) H locs hP hD hS ls (lv_sub hl [0, 1, 2, 3] rfl)
              · refine lv_lconst (v := 1) hx hb dX7_reckons_52 rfl ?_
                refine lv_goto (tgt := 57) hx hb dX7_reckons_53 (by decide) ?_
                refine zr_last k_2 (ws' := (mW G ad m_status m_top m_bottom m_taped m_size m_token m_from m_end m_value m_faultKind m_faultPlace m_faults m_seen m_depth m_counted m_lead m_round m_tried m_triedMany m_drawn m_ranSteps m_isTold m_marks m_at m_names m_sort m_trayMany m_trays m_tape m_text m_opened m_beside m_then (vp_updL s_2 k_2 1) m_further m_canBe m_loops m_ran m_told0)) hx hb hK hP hD hS 11 rfl rfl (Nat.le_of_ble_eq_true rfl) rfl (by omega) rfl dX7_reckons_57 (fun H locs hP hD hS => ?_)
                refine lv_iinc (v := nI (k_2 + 1)) (lv' := [(3, .int (nI (k_2 + 1))), (2, .int (nI (zpw Wd))), (0, .ref (ad 0)), (1, .int (zb still))]) hx hb dX7_reckons_58 hl (k := 0) rfl (nI_add k_2 1) (by decide) rfl (fun ls hl => ?_)
                refine lv_goto (tgt := 33) hx hb dX7_reckons_61 (by decide) ?_
                exact ih_2 (k_2 + 1) (vp_updL s_2 k_2 1) hlt_2 (by omega) (zf_s hst_2 (by rw [mf_reckons_B33, if_pos c_3])) H locs hP hD hS ls (lv_sub hl [0, 1, 2, 3] rfl)
        exact hlp_2 ((zpw Wd) + 1) 0 s_1 (Nat.zero_le _) (by omega) rfl H locs hP hD hS ls (lv_sub hl [0, 1, 2, 3] rfl)
      · have hlt_1 : k_1 < 1024 := Nat.lt_of_not_le c_1
        refine lv_aload_n hx hb dX7_reckons_18 rfl (lv_at hl 2 rfl) ?_
        refine va_get (D := G.1) (ci := 7) (v := .ref (ad 11)) (C := RX7) (T := TX7) (N := 39) hx hb hts in_X7 hown hK.1 hP 0 rfl rfl 27 (Nat.le_of_ble_eq_true rfl) (hts _ q1494) (fun _ h => h) rfl dX7_reckons_19 ?_
        refine lv_iload_n hx hb dX7_reckons_22 rfl (lv_at hl 0 rfl) ?_
        refine lv_lconst (v := 0) hx hb dX7_reckons_23 rfl ?_
        refine zr_last k_1 (ws' := (mW G ad m_status m_top m_bottom m_taped m_size m_token m_from m_end m_value m_faultKind m_faultPlace m_faults m_seen m_depth m_counted m_lead m_round m_tried m_triedMany m_drawn m_ranSteps m_isTold m_marks m_at m_names m_sort m_trayMany m_trays m_tape m_text m_opened m_beside m_then (vp_updL s_1 k_1 0) m_further m_canBe m_loops m_ran m_told0)) hx hb hK hP hD hS 11 rfl rfl (Nat.le_of_ble_eq_true rfl) rfl (by omega) rfl dX7_reckons_24 (fun H locs hP hD hS => ?_)
        refine lv_iinc (v := nI (k_1 + 1)) (lv' := [(3, .int (nI (k_1 + 1))), (2, .int (nI (zpw Wd))), (0, .ref (ad 0)), (1, .int (zb still))]) hx hb dX7_reckons_25 hl (k := 0) rfl (nI_add k_1 1) (by decide) rfl (fun ls hl => ?_)
        refine lv_goto (tgt := 11) hx hb dX7_reckons_28 (by decide) ?_
        exact ih_1 (k_1 + 1) (vp_updL s_1 k_1 0) hlt_1 (by omega) (zf_s hst_1 (by rw [mf_reckons_B11])) H locs hP hD hS ls (lv_sub hl [0, 1, 2, 3] rfl)
  exact hlp_1 (1024 + 1) 0 m_ways (Nat.zero_le _) (by omega) rfl H locs hP hD hS ls (lv_sub hl [0, 1, 2, 3] rfl)
def mf_aboveOf_B3 (m_at : Nat → Int32) (m_canBe : Nat → Int32) (Wd : Nat) (row : Nat) (undr : Int32) (y : Nat) (still : Bool) (s_1 : Nat) : (Nat) ⊕ ((Nat) ⊕ (Int32)) :=
  (if y = 0 then
    (if 1 ≤ s_1 then
      .inr (.inl s_1)
    else
      (if (m_canBe (1024 * y + (32 * s_1) + row)) = 1 then
        (if (mf_isGood m_at Wd (nI s_1) (nI row) undr (nI y) still) = true then
          .inr (.inr (nI s_1))
        else
          .inl (s_1 + 1))
      else
        .inl (s_1 + 1)))
  else
    (if (zpw Wd) ≤ s_1 then
      .inr (.inl s_1)
    else
      (if (m_canBe (1024 * y + (32 * s_1) + row)) = 1 then
        (if (mf_isGood m_at Wd (nI s_1) (nI row) undr (nI y) still) = true then
          .inr (.inr (nI s_1))
        else
          .inl (s_1 + 1))
      else
        .inl (s_1 + 1))))
def mf_aboveOf_L3 (m_at : Nat → Int32) (m_canBe : Nat → Int32) (Wd : Nat) (row : Nat) (undr : Int32) (y : Nat) (still : Bool) (s_1 : Nat) : (Nat) ⊕ (Int32) := zw (mf_aboveOf_B3 m_at m_canBe Wd row undr y still) (.inl s_1) ((32 - s_1) + 1) s_1
def mf_aboveOf (m_at : Nat → Int32) (m_canBe : Nat → Int32) (Wd : Nat) (row : Nat) (undr : Int32) (y : Nat) (still : Bool) : Int32 :=
  zcase (mf_aboveOf_L3 m_at m_canBe Wd row undr y still 0) (fun t_1 =>
  (-1)) (fun r => r)
theorem hd_X7_aboveOf : yX7_aboveOf.cls = RX7 ∧ yX7_aboveOf.cls ≠ "java/lang/invoke/MethodHandle" ∧ yX7_aboveOf.cls ≠ "java/lang/invoke/VarHandle" ∧ (parseMethodDescriptor yX7_aboveOf.desc).map (fun d => d.parameters.length) = some 4 := by decide +kernel
set_option maxHeartbeats 4000000 in
set_option maxRecDepth 100000 in
theorem mt_mf_aboveOf (l : Launch) (G : zG) (ad : Nat → Nat) (m_status : Int32) (m_top : Int64) (m_bottom : Int64) (m_taped : Int32) (m_size : Int32) (m_token : Int32) (m_from : Int32) (m_end : Int32) (m_value : Int32) (m_faultKind : Int32) (m_faultPlace : Int32) (m_faults : Int32) (m_seen : Int32) (m_depth : Int32) (m_counted : Int32) (m_lead : Int32) (m_round : Int32) (m_tried : Int32) (m_triedMany : Int32) (m_drawn : Int32) (m_ranSteps : Int32) (m_isTold : Bool) (m_marks : Int32) (m_at : Nat → Int32) (m_names : Nat → Int64) (m_sort : Nat → Int32) (m_trayMany : Nat → Int32) (m_trays : Nat → Int64) (m_tape : Nat → Int32) (m_text : Nat → Int32) (m_opened : Nat → Int32) (m_beside : Nat → Int32) (m_then : Nat → Int32) (m_ways : Nat → Int64) (m_further : Nat → Int64) (m_canBe : Nat → Int32) (m_loops : Nat → Int32) (m_ran : Nat → Int32) (m_told0 : Nat → Int32) (Wd : Nat) (R : Nat) (nr : Nat) (nc : Nat) (row : Nat) (undr : Int32) (y : Nat) (still : Bool) (hG : mOK m_at Wd R nr nc) (hrow : row < 32) (hy : y < 6) : Met l yX7_aboveOf (ws_ yX7_aboveOf cX7_aboveOf 6 (some .int)) (zR 4 0 0) (zPo G [.ref (ad 0), .int (nI row), .int undr, .int (nI y), .int (zb still)] (mW G ad m_status m_top m_bottom m_taped m_size m_token m_from m_end m_value m_faultKind m_faultPlace m_faults m_seen m_depth m_counted m_lead m_round m_tried m_triedMany m_drawn m_ranSteps m_isTold m_marks m_at m_names m_sort m_trayMany m_trays m_tape m_text m_opened m_beside m_then m_ways m_further m_canBe m_loops m_ran m_told0)) (k2_QcV (.int (mf_aboveOf m_at m_canBe Wd row undr y still))) 0 0 (fun _ => False) := by
  refine zr_entO (by decide) (Nat.le_of_ble_eq_true rfl) ?_
  intro p e s m below meth c ⟨hx, hb, hr, hml, hown, hts, hlocks, hnm⟩ ls hl hP hK hE
  have hown : s.vm.findClass RX7 = some m.cls := hown
  have hl : lv_has ls 6 [(0, .ref (ad 0)), (1, .int (nI row)), (2, .int undr), (3, .int (nI y)), (4, .int (zb still))] := hl
  have hWR := mOK_WR hG
  have hW0 := mOK_W0 hG
  have hW5 := mOK_W5 hG
  have hR0 := mOK_R0 hG
  have hR6 := mOK_R6 hG
  have hn4 := mOK_n4 hG
  have hc6 := mOK_c6 hG
  have hpw := zpw_le Wd (by omega)
  have hpw1 := zpw_1 Wd (by omega)
  refine lv_iconst (v := 0) hx hb dX7_aboveOf_0 (by decide) ?_
  refine lv_istore (lv' := [(5, .int 0), (0, .ref (ad 0)), (1, .int (nI row)), (2, .int undr), (3, .int (nI y)), (4, .int (zb still))]) hx hb dX7_aboveOf_1 hl (by decide) rfl (fun ls hl => ?_)
  have hx_1 : ∀ t_1 : Nat, mf_aboveOf_L3 m_at m_canBe Wd row undr y still 0 = .inl t_1 → ∀ ls : Array Slot, lv_has ls 6 [] → W p l e (zR 4 0 0) s m ([.ref (ad 0), .int (nI row), .int undr, .int (nI y), .int (zb still)] : List Value).toArray below meth c s.heap [] 0 0 (MQ below (k2_QcV (.int (mf_aboveOf m_at m_canBe Wd row undr y still))) ([.ref (ad 0), .int (nI row), .int undr, .int (nI y), .int (zb still)] : List Value).toArray s 0 0 (fun _ => False)) (F0 m 69 ls []) := by
    intro t_1 ht_1 ls hl
    refine lv_iconst (v := (-1)) hx hb dX7_aboveOf_69 (by decide) ?_
    have e_ : mf_aboveOf m_at m_canBe Wd row undr y still = (-1) := by rw [mf_aboveOf, zcase_l ht_1]
    exact zr_oi hx hb hr hlocks dX7_aboveOf_70 (congrArg Value.int e_)
  have hlp_1 : ∀ (n : Nat) (s_1 : Nat), 32 - s_1 < n → zw (mf_aboveOf_B3 m_at m_canBe Wd row undr y still) (.inl 0) n s_1 = mf_aboveOf_L3 m_at m_canBe Wd row undr y still 0 → s_1 ≤ 32 → ∀ ls : Array Slot, lv_has ls 6 [(5, .int (nI s_1)), (0, .ref (ad 0)), (1, .int (nI row)), (2, .int undr), (3, .int (nI y)), (4, .int (zb still))] → W p l e (zR 4 0 0) s m ([.ref (ad 0), .int (nI row), .int undr, .int (nI y), .int (zb still)] : List Value).toArray below meth c s.heap [] 0 0 (MQ below (k2_QcV (.int (mf_aboveOf m_at m_canBe Wd row undr y still))) ([.ref (ad 0), .int (nI row), .int undr, .int (nI y), .int (zb still)] : List Value).toArray s 0 0 (fun _ => False)) (F0 m 3 ls []) := by
    intro n
    induction n with
    | zero => exact fun _ h => absurd h (Nat.not_lt_zero _)
    | succ n ih_1 =>
      intro s_1 hmu_1 hR_1 hi5 ls hl
      refine lv_iload hx hb dX7_aboveOf_3 (lv_at hl 0 rfl) ?_
      refine lv_iload_n hx hb dX7_aboveOf_5 rfl (lv_at hl 4 rfl) ?_
      refine zr_ifneN y (by omega) (tgt := 13) hx hb dX7_aboveOf_6 (by decide) (fun c_2 => ?_) (fun c_2 => ?_)
      · refine lv_iconst (v := 1) hx hb dX7_aboveOf_13 (by decide) ?_
        refine lv_aload_n hx hb dX7_aboveOf_14 rfl (lv_at hl 1 rfl) ?_
        refine va_get (D := G.1) (ci := 7) (v := .ref (ad 1)) (C := RX7) (T := TX7) (N := 39) hx hb hts in_X7 hown hK.1 hP 0 rfl rfl 0 (Nat.le_of_ble_eq_true rfl) (hts _ q1467) (fun _ h => h) rfl dX7_aboveOf_15 ?_
        refine lv_iconst (v := 0) hx hb dX7_aboveOf_18 (by decide) ?_
        refine zr_iald 0 (v := nI Wd) hx hb hK hP 1 rfl rfl (Nat.le_of_ble_eq_true rfl) rfl (by decide) (mOK_w hG) dX7_aboveOf_19 ?_
        refine lv_ishl hx hb dX7_aboveOf_20 ?_
        refine zr_val (congrArg Value.int (zpw_e Wd (by omega))) ?_
        refine W.eq (g2 := F0 m 21 ls [.int (nI (zpw Wd)), .int (nI s_1)]) rfl ?_
        refine zr_ge s_1 (zpw Wd) (by omega) (by omega) (tgt := 69) hx hb dX7_aboveOf_21 (by decide) (fun c_3 => ?_) (fun c_3 => ?_)
        · exact hx_1 s_1 (hR_1.symm.trans (zw_r (by rw [mf_aboveOf_B3, if_neg c_2, if_pos c_3]))) ls (lv_sub hl [] rfl)
        · refine lv_aload_n hx hb dX7_aboveOf_24 rfl (lv_at hl 1 rfl) ?_
          refine va_get (D := G.1) (ci := 7) (v := .ref (ad 13)) (C := RX7) (T := TX7) (N := 39) hx hb hts in_X7 hown hK.1 hP 0 rfl rfl 29 (Nat.le_of_ble_eq_true rfl) (hts _ q1496) (fun _ h => h) rfl dX7_aboveOf_25 ?_
          refine lv_sipush (v := 1024) hx hb dX7_aboveOf_28 (by decide) ?_
          refine lv_iload_n hx hb dX7_aboveOf_31 rfl (lv_at hl 4 rfl) ?_
          refine zr_imulN 1024 y hx hb dX7_aboveOf_32 ?_
          refine lv_bipush (v := 32) hx hb dX7_aboveOf_33 (by decide) ?_
          refine lv_iload hx hb dX7_aboveOf_35 (lv_at hl 0 rfl) ?_
          refine zr_imulN 32 s_1 hx hb dX7_aboveOf_37 ?_
          refine zr_iaddN (1024 * y) (32 * s_1) hx hb dX7_aboveOf_38 ?_
          refine zr_val (v' := .int (nI (1024 * y + (32 * s_1)))) (by rfl) ?_
          refine lv_iload_n hx hb dX7_aboveOf_39 rfl (lv_at hl 2 rfl) ?_
          refine zr_iaddN (1024 * y + (32 * s_1)) row hx hb dX7_aboveOf_40 ?_
          refine zr_val (v' := .int (nI (1024 * y + (32 * s_1) + row))) (by rfl) ?_
          refine zr_iald (1024 * y + (32 * s_1) + row) (v := m_canBe (1024 * y + (32 * s_1) + row)) hx hb hK hP 13 rfl rfl (Nat.le_of_ble_eq_true rfl) rfl (by omega) rfl dX7_aboveOf_41 ?_
          refine lv_iconst (v := 1) hx hb dX7_aboveOf_42 (by decide) ?_
          refine lv_icmp_ne (tgt := 63) hx hb dX7_aboveOf_43 (by decide) (fun c_4 => ?_) (fun c_4 => ?_)
          · refine lv_iinc (v := nI (s_1 + 1)) (lv' := [(5, .int (nI (s_1 + 1))), (0, .ref (ad 0)), (1, .int (nI row)), (2, .int undr), (3, .int (nI y)), (4, .int (zb still))]) hx hb dX7_aboveOf_63 hl (k := 0) rfl (nI_add s_1 1) (by decide) rfl (fun ls hl => ?_)
            refine lv_goto (tgt := 3) hx hb dX7_aboveOf_66 (by decide) ?_
            exact ih_1 (s_1 + 1) (by omega) ((zw_l (by rw [mf_aboveOf_B3, if_neg c_2, if_neg c_3, if_neg c_4])).symm.trans hR_1) (by omega) ls (lv_sub hl [0, 1, 2, 3, 4, 5] rfl)
          · refine lv_aload_n hx hb dX7_aboveOf_46 rfl (lv_at hl 1 rfl) ?_
            refine lv_iload hx hb dX7_aboveOf_47 (lv_at hl 0 rfl) ?_
            refine lv_iload_n hx hb dX7_aboveOf_49 rfl (lv_at hl 2 rfl) ?_
            refine lv_iload_n hx hb dX7_aboveOf_50 rfl (lv_at hl 3 rfl) ?_
            refine lv_iload_n hx hb dX7_aboveOf_51 rfl (lv_at hl 4 rfl) ?_
            refine lv_iload hx hb dX7_aboveOf_52 (lv_at hl 5 rfl) ?_
            refine zr_obV ⟨hx, hb, hml, hown, hts⟩ (mt_mf_isGood l G ad m_status m_top m_bottom m_taped m_size m_token m_from m_end m_value m_faultKind m_faultPlace m_faults m_seen m_depth m_counted m_lead m_round m_tried m_triedMany m_drawn m_ranSteps m_isTold m_marks m_at m_names m_sort m_trayMany m_trays m_tape m_text m_opened m_beside m_then m_ways m_further m_canBe m_loops m_ran m_told0 Wd R nr nc (nI s_1) (nI row) undr (nI y) still hG) (cwV 5 hts (lw_V q1960 q1962 qs113 q144 q1963) rfl rfl rfl hd_X7_isGood ⟨(Nat.le_of_ble_eq_true rfl), (Nat.le_of_ble_eq_true rfl)⟩) hP hK hE 0 7 rfl rfl rfl hl.1 rfl (Nat.le_of_ble_eq_true rfl) dX7_aboveOf_54 ⟨Nat.le_refl _, Nat.le_refl _⟩ ?_
            refine zr_eqB (mf_isGood m_at Wd (nI s_1) (nI row) undr (nI y) still) (tgt := 63) hx hb dX7_aboveOf_57 (by decide) (fun c_5 => ?_) (fun c_5 => ?_)
            · refine lv_iinc (v := nI (s_1 + 1)) (lv' := [(5, .int (nI (s_1 + 1))), (0, .ref (ad 0)), (1, .int (nI row)), (2, .int undr), (3, .int (nI y)), (4, .int (zb still))]) hx hb dX7_aboveOf_63 hl (k := 0) rfl (nI_add s_1 1) (by decide) rfl (fun ls hl => ?_)
              refine lv_goto (tgt := 3) hx hb dX7_aboveOf_66 (by decide) ?_
              exact ih_1 (s_1 + 1) (by omega) ((zw_l (by rw [mf_aboveOf_B3, if_neg c_2, if_neg c_3, if_pos c_4, if_neg c_5])).symm.trans hR_1) (by omega) ls (lv_sub hl [0, 1, 2, 3, 4, 5] rfl)
            · refine lv_iload hx hb dX7_aboveOf_60 (lv_at hl 0 rfl) ?_
              have hr_1 : mf_aboveOf_L3 m_at m_canBe Wd row undr y still 0 = .inr (nI s_1) := hR_1.symm.trans (zw_r (by rw [mf_aboveOf_B3, if_neg c_2, if_neg c_3, if_pos c_4, if_pos c_5]))
              have e_ : mf_aboveOf m_at m_canBe Wd row undr y still = nI s_1 := by rw [mf_aboveOf, zcase_r hr_1]
              exact zr_oi hx hb hr hlocks dX7_aboveOf_62 (congrArg Value.int e_)
      · refine lv_iconst (v := 1) hx hb dX7_aboveOf_9 (by decide) ?_
        refine lv_goto (tgt := 21) hx hb dX7_aboveOf_10 (by decide) ?_
        refine zr_ge s_1 1 (by omega) (by decide) (tgt := 69) hx hb dX7_aboveOf_21 (by decide) (fun c_6 => ?_) (fun c_6 => ?_)
        · exact hx_1 s_1 (hR_1.symm.trans (zw_r (by rw [mf_aboveOf_B3, if_pos c_2, if_pos c_6]))) ls (lv_sub hl [] rfl)
        · refine lv_aload_n hx hb dX7_aboveOf_24 rfl (lv_at hl 1 rfl) ?_
          refine va_get (D := G.1) (ci := 7) (v := .ref (ad 13)) (C := RX7) (T := TX7) (N := 39) hx hb hts in_X7 hown hK.1 hP 0 rfl rfl 29 (Nat.le_of_ble_eq_true rfl) (hts _ q1496) (fun _ h => h) rfl dX7_aboveOf_25 ?_
          refine lv_sipush (v := 1024) hx hb dX7_aboveOf_28 (by decide) ?_
          refine lv_iload_n hx hb dX7_aboveOf_31 rfl (lv_at hl 4 rfl) ?_
          refine zr_imulN 1024 y hx hb dX7_aboveOf_32 ?_
          refine lv_bipush (v := 32) hx hb dX7_aboveOf_33 (by decide) ?_
          refine lv_iload hx hb dX7_aboveOf_35 (lv_at hl 0 rfl) ?_
          refine zr_imulN 32 s_1 hx hb dX7_aboveOf_37 ?_
          refine zr_iaddN (1024 * y) (32 * s_1) hx hb dX7_aboveOf_38 ?_
          refine zr_val (v' := .int (nI (1024 * y + (32 * s_1)))) (by rfl) ?_
          refine lv_iload_n hx hb dX7_aboveOf_39 rfl (lv_at hl 2 rfl) ?_
          refine zr_iaddN (1024 * y + (32 * s_1)) row hx hb dX7_aboveOf_40 ?_
          refine zr_val (v' := .int (nI (1024 * y + (32 * s_1) + row))) (by rfl) ?_
          refine zr_iald (1024 * y + (32 * s_1) + row) (v := m_canBe (1024 * y + (32 * s_1) + row)) hx hb hK hP 13 rfl rfl (Nat.le_of_ble_eq_true rfl) rfl (by omega) rfl dX7_aboveOf_41 ?_
          refine lv_iconst (v := 1) hx hb dX7_aboveOf_42 (by decide) ?_
          refine lv_icmp_ne (tgt := 63) hx hb dX7_aboveOf_43 (by decide) (fun c_7 => ?_) (fun c_7 => ?_)
          · refine lv_iinc (v := nI (s_1 + 1)) (lv' := [(5, .int (nI (s_1 + 1))), (0, .ref (ad 0)), (1, .int (nI row)), (2, .int undr), (3, .int (nI y)), (4, .int (zb still))]) hx hb dX7_aboveOf_63 hl (k := 0) rfl (nI_add s_1 1) (by decide) rfl (fun ls hl => ?_)
            refine lv_goto (tgt := 3) hx hb dX7_aboveOf_66 (by decide) ?_
            exact ih_1 (s_1 + 1) (by omega) ((zw_l (by rw [mf_aboveOf_B3, if_pos c_2, if_neg c_6, if_neg c_7])).symm.trans hR_1) (by omega) ls (lv_sub hl [0, 1, 2, 3, 4, 5] rfl)
          · refine lv_aload_n hx hb dX7_aboveOf_46 rfl (lv_at hl 1 rfl) ?_
            refine lv_iload hx hb dX7_aboveOf_47 (lv_at hl 0 rfl) ?_
            refine lv_iload_n hx hb dX7_aboveOf_49 rfl (lv_at hl 2 rfl) ?_
            refine lv_iload_n hx hb dX7_aboveOf_50 rfl (lv_at hl 3 rfl) ?_
            refine lv_iload_n hx hb dX7_aboveOf_51 rfl (lv_at hl 4 rfl) ?_
            refine lv_iload hx hb dX7_aboveOf_52 (lv_at hl 5 rfl) ?_
            refine zr_obV ⟨hx, hb, hml, hown, hts⟩ (mt_mf_isGood l G ad m_status m_top m_bottom m_taped m_size m_token m_from m_end m_value m_faultKind m_faultPlace m_faults m_seen m_depth m_counted m_lead m_round m_tried m_triedMany m_drawn m_ranSteps m_isTold m_marks m_at m_names m_sort m_trayMany m_trays m_tape m_text m_opened m_beside m_then m_ways m_further m_canBe m_loops m_ran m_told0 Wd R nr nc (nI s_1) (nI row) undr (nI y) still hG) (cwV 5 hts (lw_V q1960 q1962 qs113 q144 q1963) rfl rfl rfl hd_X7_isGood ⟨(Nat.le_of_ble_eq_true rfl), (Nat.le_of_ble_eq_true rfl)⟩) hP hK hE 0 7 rfl rfl rfl hl.1 rfl (Nat.le_of_ble_eq_true rfl) dX7_aboveOf_54 ⟨Nat.le_refl _, Nat.le_refl _⟩ ?_
            refine zr_eqB (mf_isGood m_at Wd (nI s_1) (nI row) undr (nI y) still) (tgt := 63) hx hb dX7_aboveOf_57 (by decide) (fun c_8 => ?_) (fun c_8 => ?_)
            · refine lv_iinc (v := nI (s_1 + 1)) (lv' := [(5, .int (nI (s_1 + 1))), (0, .ref (ad 0)), (1, .int (nI row)), (2, .int undr), (3, .int (nI y)), (4, .int (zb still))]) hx hb dX7_aboveOf_63 hl (k := 0) rfl (nI_add s_1 1) (by decide) rfl (fun ls hl => ?_)
              refine lv_goto (tgt := 3) hx hb dX7_aboveOf_66 (by decide) ?_
              exact ih_1 (s_1 + 1) (by omega) ((zw_l (by rw [mf_aboveOf_B3, if_pos c_2, if_neg c_6, if_pos c_7, if_neg c_8])).symm.trans hR_1) (by omega) ls (lv_sub hl [0, 1, 2, 3, 4, 5] rfl)
            · refine lv_iload hx hb dX7_aboveOf_60 (lv_at hl 0 rfl) ?_
              have hr_1 : mf_aboveOf_L3 m_at m_canBe Wd row undr y still 0 = .inr (nI s_1) := hR_1.symm.trans (zw_r (by rw [mf_aboveOf_B3, if_pos c_2, if_neg c_6, if_pos c_7, if_pos c_8]))
              have e_ : mf_aboveOf m_at m_canBe Wd row undr y still = nI s_1 := by rw [mf_aboveOf, zcase_r hr_1]
              exact zr_oi hx hb hr hlocks dX7_aboveOf_62 (congrArg Value.int e_)
  exact hlp_1 _ 0 (Nat.lt_succ_self _) (by rw [mf_aboveOf_L3]) (by omega) ls (lv_sub hl [0, 1, 2, 3, 4, 5] rfl)
theorem aboveOf_r {m_at m_canBe : Nat → Int32} {Wd R row : Nat} {undr : Int32} {y : Nat} {still : Bool} (hW : Wd < 6) (h : ¬ mf_aboveOf m_at m_canBe Wd row undr y still = -1) : ¬ mf_aboveOf m_at m_canBe Wd row undr y still < 0 ∧ (mf_aboveOf m_at m_canBe Wd row undr y still).toNatClampNeg < 32 := by
  have key : ∀ n s, ∀ r : Int32, zw (mf_aboveOf_B3 m_at m_canBe Wd row undr y still) (.inl 0) n s = .inr r → (¬ r < 0 ∧ r.toNatClampNeg < 32) := by
    intro n s
    refine zw_inv (fun _ => True) (fun x : Nat ⊕ Int32 => ∀ r : Int32, x = .inr r → (¬ r < 0 ∧ r.toNatClampNeg < 32)) (fun _ _ _ _ => trivial) ?_ (fun r h => by cases h) n s trivial
    intro s x _ hs r hx
    subst hx
    have hz : ∃ n, n < 32 ∧ r = nI n := by
      have hp := zpw_le Wd hW
      unfold mf_aboveOf_B3 at hs
      split at hs
      · split at hs
        · cases hs
        · split at hs
          · split at hs
            · cases hs; exact ⟨s, by omega, rfl⟩
            · cases hs
          · cases hs
      · split at hs
        · cases hs
        · split at hs
          · split at hs
            · cases hs; exact ⟨s, by omega, rfl⟩
            · cases hs
          · cases hs
    obtain ⟨j, hj, rfl⟩ := hz
    exact ⟨nI_pos (by omega), by rw [nI_clamp (by omega)]; exact hj⟩
  unfold mf_aboveOf at h ⊢
  unfold mf_aboveOf_L3 at h ⊢
  generalize hg : zw (mf_aboveOf_B3 m_at m_canBe Wd row undr y still) (.inl 0) (32 - 0 + 1) 0 = z at h ⊢
  cases z with
  | inl a => exact absurd rfl h
  | inr r => exact key _ _ r hg
-- least later
def mf_tries_B46 (m_at : Nat → Int32) (m_beside : Nat → Int32) (Wd : Nat) (R : Nat) (nights : Nat) (k_2 : Nat) (s_2 : Int32) : Int32 :=
  mf_becomes m_at m_beside Wd R s_2 (m_at 10)
def mf_tries_L46 (m_at : Nat → Int32) (m_beside : Nat → Int32) (Wd : Nat) (R : Nat) (nights : Nat) (s_2 : Int32) : Int32 := zf (mf_tries_B46 m_at m_beside Wd R nights) s_2 nights
def mf_tries_J33 (m_tried : Int32) (m_triedMany : Int32) (m_at : Nat → Int32) (m_beside : Nat → Int32) (Wd : Nat) (R : Nat) (set_ : Int32) (many : Int32) (bit : Int32) (nights : Nat) : Int32 × Int32 :=
  zlet (mf_tries_L46 m_at m_beside Wd R nights ((m_at 3) ^^^ set_)) (fun s_2 =>
  (if (s_2 &&& bit) = 0 then
    (m_tried, m_triedMany)
  else
    (set_, many)))
def mf_tries (m_tried : Int32) (m_triedMany : Int32) (m_at : Nat → Int32) (m_beside : Nat → Int32) (Wd : Nat) (R : Nat) (set_ : Int32) (many : Int32) (bit : Int32) (nights : Nat) : Int32 × Int32 :=
  (if m_tried = (-1) then
    mf_tries_J33 m_tried m_triedMany m_at m_beside Wd R set_ many bit nights
  else
    (if m_triedMany < many then
      (m_tried, m_triedMany)
    else
      (if many = m_triedMany then
        (if set_ < m_tried then
          mf_tries_J33 m_tried m_triedMany m_at m_beside Wd R set_ many bit nights
        else
          (m_tried, m_triedMany))
      else
        mf_tries_J33 m_tried m_triedMany m_at m_beside Wd R set_ many bit nights)))
theorem hd_X7_tries : yX7_tries.cls = RX7 ∧ yX7_tries.cls ≠ "java/lang/invoke/MethodHandle" ∧ yX7_tries.cls ≠ "java/lang/invoke/VarHandle" ∧ (parseMethodDescriptor yX7_tries.desc).map (fun d => d.parameters.length) = some 4 := by decide +kernel
set_option maxHeartbeats 4000000 in
set_option maxRecDepth 100000 in
theorem mt_mf_tries (l : Launch) (G : zG) (ad : Nat → Nat) (m_status : Int32) (m_top : Int64) (m_bottom : Int64) (m_taped : Int32) (m_size : Int32) (m_token : Int32) (m_from : Int32) (m_end : Int32) (m_value : Int32) (m_faultKind : Int32) (m_faultPlace : Int32) (m_faults : Int32) (m_seen : Int32) (m_depth : Int32) (m_counted : Int32) (m_lead : Int32) (m_round : Int32) (m_tried : Int32) (m_triedMany : Int32) (m_drawn : Int32) (m_ranSteps : Int32) (m_isTold : Bool) (m_marks : Int32) (m_at : Nat → Int32) (m_names : Nat → Int64) (m_sort : Nat → Int32) (m_trayMany : Nat → Int32) (m_trays : Nat → Int64) (m_tape : Nat → Int32) (m_text : Nat → Int32) (m_opened : Nat → Int32) (m_beside : Nat → Int32) (m_then : Nat → Int32) (m_ways : Nat → Int64) (m_further : Nat → Int64) (m_canBe : Nat → Int32) (m_loops : Nat → Int32) (m_ran : Nat → Int32) (m_told0 : Nat → Int32) (Wd : Nat) (R : Nat) (nr : Nat) (nc : Nat) (set_ : Int32) (many : Int32) (bit : Int32) (nights : Nat) (hG : mOK m_at Wd R nr nc) (hnn : nights < 2 ^ 31) (sz : Nat) : Met l yX7_tries (ws_ yX7_tries cX7_tries 7 none) (zR 3 0 0) (zPm G sz [.ref (ad 0), .int set_, .int many, .int bit, .int (nI nights)] (mW G ad m_status m_top m_bottom m_taped m_size m_token m_from m_end m_value m_faultKind m_faultPlace m_faults m_seen m_depth m_counted m_lead m_round m_tried m_triedMany m_drawn m_ranSteps m_isTold m_marks m_at m_names m_sort m_trayMany m_trays m_tape m_text m_opened m_beside m_then m_ways m_further m_canBe m_loops m_ran m_told0)) (zQm G (True) none (mW G ad m_status m_top m_bottom m_taped m_size m_token m_from m_end m_value m_faultKind m_faultPlace m_faults m_seen m_depth m_counted m_lead m_round ((mf_tries m_tried m_triedMany m_at m_beside Wd R set_ many bit nights).1) ((mf_tries m_tried m_triedMany m_at m_beside Wd R set_ many bit nights).2) m_drawn m_ranSteps m_isTold m_marks m_at m_names m_sort m_trayMany m_trays m_tape m_text m_opened m_beside m_then m_ways m_further m_canBe m_loops m_ran m_told0) (va_A (mW G ad m_status m_top m_bottom m_taped m_size m_token m_from m_end m_value m_faultKind m_faultPlace m_faults m_seen m_depth m_counted m_lead m_round m_tried m_triedMany m_drawn m_ranSteps m_isTold m_marks m_at m_names m_sort m_trayMany m_trays m_tape m_text m_opened m_beside m_then m_ways m_further m_canBe m_loops m_ran m_told0) sz)) 0 0 (va_A (mW G ad m_status m_top m_bottom m_taped m_size m_token m_from m_end m_value m_faultKind m_faultPlace m_faults m_seen m_depth m_counted m_lead m_round m_tried m_triedMany m_drawn m_ranSteps m_isTold m_marks m_at m_names m_sort m_trayMany m_trays m_tape m_text m_opened m_beside m_then m_ways m_further m_canBe m_loops m_ran m_told0) sz) := by
  refine zr_entM (by decide) (Nat.le_of_ble_eq_true rfl) ?_
  intro p e s m below meth c ⟨hx, hb, hr, hml, hown, hts, hlocks, hnm⟩ ls hl hP hK A hE hA hD hS
  have hown : s.vm.findClass RX7 = some m.cls := hown
  have hl : lv_has ls 7 [(0, .ref (ad 0)), (1, .int set_), (2, .int many), (3, .int bit), (4, .int (nI nights))] := hl
  obtain ⟨H, hH⟩ : ∃ H, H = s.heap := ⟨_, rfl⟩
  obtain ⟨locs, hlo⟩ : ∃ L : List Loc, L = [] := ⟨_, rfl⟩
  rw [← hH] at hP
  have hS : va_S A s.heap H locs := by rw [hH, hlo]; exact va_S.rf
  have hgo : W p l e (zR 3 0 0) s m ([.ref (ad 0), .int set_, .int many, .int bit, .int (nI nights)] : List Value).toArray below meth c H locs 0 0 (MQ below (zQm G (True) none (mW G ad m_status m_top m_bottom m_taped m_size m_token m_from m_end m_value m_faultKind m_faultPlace m_faults m_seen m_depth m_counted m_lead m_round ((mf_tries m_tried m_triedMany m_at m_beside Wd R set_ many bit nights).1) ((mf_tries m_tried m_triedMany m_at m_beside Wd R set_ many bit nights).2) m_drawn m_ranSteps m_isTold m_marks m_at m_names m_sort m_trayMany m_trays m_tape m_text m_opened m_beside m_then m_ways m_further m_canBe m_loops m_ran m_told0) A) ([.ref (ad 0), .int set_, .int many, .int bit, .int (nI nights)] : List Value).toArray s 0 0 A) (F0 m 0 ls []) := ?_
  · rw [hH, hlo] at hgo; exact hgo
  clear hH hlo
  have hWR := mOK_WR hG
  have hW0 := mOK_W0 hG
  have hW5 := mOK_W5 hG
  have hR0 := mOK_R0 hG
  have hR6 := mOK_R6 hG
  have hn4 := mOK_n4 hG
  have hc6 := mOK_c6 hG
  have J_1 : mf_tries m_tried m_triedMany m_at m_beside Wd R set_ many bit nights = mf_tries_J33 m_tried m_triedMany m_at m_beside Wd R set_ many bit nights → ∀ (H : Heap) (locs : List Loc), va_P G.1 zcl (mW G ad m_status m_top m_bottom m_taped m_size m_token m_from m_end m_value m_faultKind m_faultPlace m_faults m_seen m_depth m_counted m_lead m_round m_tried m_triedMany m_drawn m_ranSteps m_isTold m_marks m_at m_names m_sort m_trayMany m_trays m_tape m_text m_opened m_beside m_then m_ways m_further m_canBe m_loops m_ran m_told0) H → va_D A (mW G ad m_status m_top m_bottom m_taped m_size m_token m_from m_end m_value m_faultKind m_faultPlace m_faults m_seen m_depth m_counted m_lead m_round m_tried m_triedMany m_drawn m_ranSteps m_isTold m_marks m_at m_names m_sort m_trayMany m_trays m_tape m_text m_opened m_beside m_then m_ways m_further m_canBe m_loops m_ran m_told0) → va_S A s.heap H locs → ∀ ls : Array Slot, lv_has ls 7 [(0, .ref (ad 0)), (1, .int set_), (2, .int many), (3, .int bit), (4, .int (nI nights))] → W p l e (zR 3 0 0) s m ([.ref (ad 0), .int set_, .int many, .int bit, .int (nI nights)] : List Value).toArray below meth c H locs 0 0 (MQ below (zQm G (True) none (mW G ad m_status m_top m_bottom m_taped m_size m_token m_from m_end m_value m_faultKind m_faultPlace m_faults m_seen m_depth m_counted m_lead m_round ((mf_tries m_tried m_triedMany m_at m_beside Wd R set_ many bit nights).1) ((mf_tries m_tried m_triedMany m_at m_beside Wd R set_ many bit nights).2) m_drawn m_ranSteps m_isTold m_marks m_at m_names m_sort m_trayMany m_trays m_tape m_text m_opened m_beside m_then m_ways m_further m_canBe m_loops m_ran m_told0) A) ([.ref (ad 0), .int set_, .int many, .int bit, .int (nI nights)] : List Value).toArray s 0 0 A) (F0 m 33 ls []) := by
    intro hJ_1 H locs hP hD hS ls hl
    refine lv_aload_n hx hb dX7_tries_33 rfl (lv_at hl 0 rfl) ?_
    refine va_get (D := G.1) (ci := 7) (v := .ref (ad 1)) (C := RX7) (T := TX7) (N := 39) hx hb hts in_X7 hown hK.1 hP 0 rfl rfl 0 (Nat.le_of_ble_eq_true rfl) (hts _ q1467) (fun _ h => h) rfl dX7_tries_34 ?_
    refine lv_iconst (v := 3) hx hb dX7_tries_37 (by decide) ?_
    refine zr_iald 3 (v := m_at 3) hx hb hK hP 1 rfl rfl (Nat.le_of_ble_eq_true rfl) rfl (by decide) rfl dX7_tries_38 ?_
    refine lv_iload_n hx hb dX7_tries_39 rfl (lv_at hl 1 rfl) ?_
    refine lv_ixor hx hb dX7_tries_40 ?_
    refine lv_istore (lv' := [(5, .int ((m_at 3) ^^^ set_)), (0, .ref (ad 0)), (1, .int set_), (2, .int many), (3, .int bit), (4, .int (nI nights))]) hx hb dX7_tries_41 hl (by decide) rfl (fun ls hl => ?_)
    refine lv_iconst (v := 0) hx hb dX7_tries_43 (by decide) ?_
    refine lv_istore (lv' := [(6, .int 0), (5, .int ((m_at 3) ^^^ set_)), (0, .ref (ad 0)), (1, .int set_), (2, .int many), (3, .int bit), (4, .int (nI nights))]) hx hb dX7_tries_44 hl (by decide) rfl (fun ls hl => ?_)
    have hlp_2 : ∀ (n k_2 : Nat) (s_2 : Int32), k_2 ≤ nights → nights < k_2 + n → zf (mf_tries_B46 m_at m_beside Wd R nights) ((m_at 3) ^^^ set_) k_2 = s_2 → ∀ (H : Heap) (locs : List Loc), va_P G.1 zcl (mW G ad m_status m_top m_bottom m_taped m_size m_token m_from m_end m_value m_faultKind m_faultPlace m_faults m_seen m_depth m_counted m_lead m_round m_tried m_triedMany m_drawn m_ranSteps m_isTold m_marks m_at m_names m_sort m_trayMany m_trays m_tape m_text m_opened m_beside m_then m_ways m_further m_canBe m_loops m_ran m_told0) H → va_D A (mW G ad m_status m_top m_bottom m_taped m_size m_token m_from m_end m_value m_faultKind m_faultPlace m_faults m_seen m_depth m_counted m_lead m_round m_tried m_triedMany m_drawn m_ranSteps m_isTold m_marks m_at m_names m_sort m_trayMany m_trays m_tape m_text m_opened m_beside m_then m_ways m_further m_canBe m_loops m_ran m_told0) → va_S A s.heap H locs → ∀ ls : Array Slot, lv_has ls 7 [(6, .int (nI k_2)), (5, .int s_2), (0, .ref (ad 0)), (1, .int set_), (2, .int many), (3, .int bit), (4, .int (nI nights))] → W p l e (zR 3 0 0) s m ([.ref (ad 0), .int set_, .int many, .int bit, .int (nI nights)] : List Value).toArray below meth c H locs 0 0 (MQ below (zQm G (True) none (mW G ad m_status m_top m_bottom m_taped m_size m_token m_from m_end m_value m_faultKind m_faultPlace m_faults m_seen m_depth m_counted m_lead m_round ((mf_tries m_tried m_triedMany m_at m_beside Wd R set_ many bit nights).1) ((mf_tries m_tried m_triedMany m_at m_beside Wd R set_ many bit nights).2) m_drawn m_ranSteps m_isTold m_marks m_at m_names m_sort m_trayMany m_trays m_tape m_text m_opened m_beside m_then m_ways m_further m_canBe m_loops m_ran m_told0) A) ([.ref (ad 0), .int set_, .int many, .int bit, .int (nI nights)] : List Value).toArray s 0 0 A) (F0 m 46 ls []) := by
      intro n
      induction n with
      | zero => intro k_2 s_2 h1 h2; exact absurd h2 (by omega)
      | succ n ih_2 =>
        intro k_2 s_2 hk_2 hn_2 hst_2 H locs hP hD hS ls hl
        refine lv_iload hx hb dX7_tries_46 (lv_at hl 0 rfl) ?_
        refine lv_iload hx hb dX7_tries_48 (lv_at hl 6 rfl) ?_
        refine zr_ge k_2 nights (by omega) (by omega) (tgt := 74) hx hb dX7_tries_50 (by decide) (fun c_2 => ?_) (fun c_2 => ?_)
        · have ek_2 : k_2 = nights := Nat.le_antisymm hk_2 c_2
          have hs_2 : mf_tries_L46 m_at m_beside Wd R nights ((m_at 3) ^^^ set_) = s_2 := by rw [ek_2] at hst_2; exact hst_2
          have hl := lv_sub hl (l' := _) [1, 2, 3, 4, 5, 6] rfl
          refine lv_iload hx hb dX7_tries_74 (lv_at hl 0 rfl) ?_
          refine lv_iload_n hx hb dX7_tries_76 rfl (lv_at hl 4 rfl) ?_
          refine lv_iand hx hb dX7_tries_77 ?_
          refine lv_if_ne (tgt := 82) hx hb dX7_tries_78 (by decide) (fun c_3 => ?_) (fun c_3 => ?_)
          · refine lv_aload_n hx hb dX7_tries_82 rfl (lv_at hl 1 rfl) ?_
            refine lv_iload_n hx hb dX7_tries_83 rfl (lv_at hl 2 rfl) ?_
            refine va_put (D := G.1) (ci := 7) (v := .int set_) (ty := .int) (C := RX7) (T := TX7) (N := 39) hx hb hts in_X7 tyX7 tyX7_ok nmX7 hown hK.1 hP hD hS 0 rfl rfl 30 (Nat.le_of_ble_eq_true rfl) (hts _ q1497) (fun _ h => h) rfl (tyX7_ok 30 (Nat.le_of_ble_eq_true rfl)) rfl rfl (Nat.le_of_ble_eq_true rfl) dX7_tries_84 (fun H locs hP hD hS => ?_)
            have hP : va_P G.1 zcl (mW G ad m_status m_top m_bottom m_taped m_size m_token m_from m_end m_value m_faultKind m_faultPlace m_faults m_seen m_depth m_counted m_lead m_round set_ m_triedMany m_drawn m_ranSteps m_isTold m_marks m_at m_names m_sort m_trayMany m_trays m_tape m_text m_opened m_beside m_then m_ways m_further m_canBe m_loops m_ran m_told0) H := hP
            have hD : va_D A (mW G ad m_status m_top m_bottom m_taped m_size m_token m_from m_end m_value m_faultKind m_faultPlace m_faults m_seen m_depth m_counted m_lead m_round set_ m_triedMany m_drawn m_ranSteps m_isTold m_marks m_at m_names m_sort m_trayMany m_trays m_tape m_text m_opened m_beside m_then m_ways m_further m_canBe m_loops m_ran m_told0) := hD
            refine lv_aload_n hx hb dX7_tries_87 rfl (lv_at hl 1 rfl) ?_
            refine lv_iload_n hx hb dX7_tries_88 rfl (lv_at hl 3 rfl) ?_
            refine va_put (D := G.1) (ci := 7) (v := .int many) (ty := .int) (C := RX7) (T := TX7) (N := 39) hx hb hts in_X7 tyX7 tyX7_ok nmX7 hown hK.1 hP hD hS 0 rfl rfl 31 (Nat.le_of_ble_eq_true rfl) (hts _ q1498) (fun _ h => h) rfl (tyX7_ok 31 (Nat.le_of_ble_eq_true rfl)) rfl rfl (Nat.le_of_ble_eq_true rfl) dX7_tries_89 (fun H locs hP hD hS => ?_)
            have hP : va_P G.1 zcl (mW G ad m_status m_top m_bottom m_taped m_size m_token m_from m_end m_value m_faultKind m_faultPlace m_faults m_seen m_depth m_counted m_lead m_round set_ many m_drawn m_ranSteps m_isTold m_marks m_at m_names m_sort m_trayMany m_trays m_tape m_text m_opened m_beside m_then m_ways m_further m_canBe m_loops m_ran m_told0) H := hP
            have hD : va_D A (mW G ad m_status m_top m_bottom m_taped m_size m_token m_from m_end m_value m_faultKind m_faultPlace m_faults m_seen m_depth m_counted m_lead m_round set_ many m_drawn m_ranSteps m_isTold m_marks m_at m_names m_sort m_trayMany m_trays m_tape m_text m_opened m_beside m_then m_ways m_further m_canBe m_loops m_ran m_told0) := hD
            have e_ : mf_tries m_tried m_triedMany m_at m_beside Wd R set_ many bit nights = (set_, many) := hJ_1.trans (by rw [mf_tries_J33, zlet_eq hs_2, if_neg c_3])
            exact zr_mv hx hb hr hlocks hP hD hS dX7_tries_92 rfl (by rw [e_]) trivial
          · have e_ : mf_tries m_tried m_triedMany m_at m_beside Wd R set_ many bit nights = (m_tried, m_triedMany) := hJ_1.trans (by rw [mf_tries_J33, zlet_eq hs_2, if_pos c_3])
            exact zr_mv hx hb hr hlocks hP hD hS dX7_tries_81 rfl (by rw [e_]) trivial
        · have hlt_2 : k_2 < nights := Nat.lt_of_not_le c_2
          refine lv_aload_n hx hb dX7_tries_53 rfl (lv_at hl 2 rfl) ?_
          refine lv_iload hx hb dX7_tries_54 (lv_at hl 1 rfl) ?_
          refine lv_aload_n hx hb dX7_tries_56 rfl (lv_at hl 2 rfl) ?_
          refine va_get (D := G.1) (ci := 7) (v := .ref (ad 1)) (C := RX7) (T := TX7) (N := 39) hx hb hts in_X7 hown hK.1 hP 0 rfl rfl 0 (Nat.le_of_ble_eq_true rfl) (hts _ q1467) (fun _ h => h) rfl dX7_tries_57 ?_
          refine lv_bipush (v := 10) hx hb dX7_tries_60 (by decide) ?_
          refine zr_iald 10 (v := m_at 10) hx hb hK hP 1 rfl rfl (Nat.le_of_ble_eq_true rfl) rfl (by decide) rfl dX7_tries_62 ?_
          refine zr_obV ⟨hx, hb, hml, hown, hts⟩ (mt_mf_becomes l G ad m_status m_top m_bottom m_taped m_size m_token m_from m_end m_value m_faultKind m_faultPlace m_faults m_seen m_depth m_counted m_lead m_round m_tried m_triedMany m_drawn m_ranSteps m_isTold m_marks m_at m_names m_sort m_trayMany m_trays m_tape m_text m_opened m_beside m_then m_ways m_further m_canBe m_loops m_ran m_told0 Wd R nr nc s_2 (m_at 10) hG (mOK_by hG)) (cwV 2 hts (lw_V q1893 q1895 qs106 q144 q1896) rfl rfl rfl hd_X7_becomes ⟨(Nat.le_of_ble_eq_true rfl), (Nat.le_of_ble_eq_true rfl)⟩) hP hK (zE_o hE hS) 0 7 rfl rfl rfl hl.1 rfl (Nat.le_of_ble_eq_true rfl) dX7_tries_63 ⟨Nat.le_refl _, Nat.le_refl _⟩ ?_
          refine lv_istore (lv' := [(5, .int (mf_becomes m_at m_beside Wd R s_2 (m_at 10))), (6, .int (nI k_2)), (0, .ref (ad 0)), (1, .int set_), (2, .int many), (3, .int bit), (4, .int (nI nights))]) hx hb dX7_tries_66 hl (by decide) rfl (fun ls hl => ?_)
          refine lv_iinc (v := nI (k_2 + 1)) (lv' := [(6, .int (nI (k_2 + 1))), (5, .int (mf_becomes m_at m_beside Wd R s_2 (m_at 10))), (0, .ref (ad 0)), (1, .int set_), (2, .int many), (3, .int bit), (4, .int (nI nights))]) hx hb dX7_tries_68 hl (k := 1) rfl (nI_add k_2 1) (by decide) rfl (fun ls hl => ?_)
          refine lv_goto (tgt := 46) hx hb dX7_tries_71 (by decide) ?_
          exact ih_2 (k_2 + 1) (mf_becomes m_at m_beside Wd R s_2 (m_at 10)) hlt_2 (by omega) (zf_s hst_2 (by rw [mf_tries_B46])) H locs hP hD hS ls (lv_sub hl [0, 1, 2, 3, 4, 5, 6] rfl)
    exact hlp_2 (nights + 1) 0 ((m_at 3) ^^^ set_) (Nat.zero_le _) (by omega) rfl H locs hP hD hS ls (lv_sub hl [0, 1, 2, 3, 4, 5, 6] rfl)
  refine lv_aload_n hx hb dX7_tries_0 rfl (lv_at hl 0 rfl) ?_
  refine va_get (D := G.1) (ci := 7) (v := .int m_tried) (C := RX7) (T := TX7) (N := 39) hx hb hts in_X7 hown hK.1 hP 0 rfl rfl 30 (Nat.le_of_ble_eq_true rfl) (hts _ q1497) (fun _ h => h) rfl dX7_tries_1 ?_
  refine lv_iconst (v := (-1)) hx hb dX7_tries_4 (by decide) ?_
  refine lv_icmp_eq (tgt := 33) hx hb dX7_tries_5 (by decide) (fun c_4 => ?_) (fun c_4 => ?_)
  · exact J_1 (by rw [mf_tries, if_pos c_4]) H locs hP hD hS ls (lv_sub hl [0, 1, 2, 3, 4] rfl)
  · refine lv_iload_n hx hb dX7_tries_8 rfl (lv_at hl 2 rfl) ?_
    refine lv_aload_n hx hb dX7_tries_9 rfl (lv_at hl 0 rfl) ?_
    refine va_get (D := G.1) (ci := 7) (v := .int m_triedMany) (C := RX7) (T := TX7) (N := 39) hx hb hts in_X7 hown hK.1 hP 0 rfl rfl 31 (Nat.le_of_ble_eq_true rfl) (hts _ q1498) (fun _ h => h) rfl dX7_tries_10 ?_
    refine lv_icmp_gt (tgt := 32) hx hb dX7_tries_13 (by decide) (fun c_5 => ?_) (fun c_5 => ?_)
    · have e_ : mf_tries m_tried m_triedMany m_at m_beside Wd R set_ many bit nights = (m_tried, m_triedMany) := by rw [mf_tries, if_neg c_4, if_pos c_5]
      exact zr_mv hx hb hr hlocks hP hD hS dX7_tries_32 rfl (by rw [e_]) trivial
    · refine lv_iload_n hx hb dX7_tries_16 rfl (lv_at hl 2 rfl) ?_
      refine lv_aload_n hx hb dX7_tries_17 rfl (lv_at hl 0 rfl) ?_
      refine va_get (D := G.1) (ci := 7) (v := .int m_triedMany) (C := RX7) (T := TX7) (N := 39) hx hb hts in_X7 hown hK.1 hP 0 rfl rfl 31 (Nat.le_of_ble_eq_true rfl) (hts _ q1498) (fun _ h => h) rfl dX7_tries_18 ?_
      refine lv_icmp_ne (tgt := 33) hx hb dX7_tries_21 (by decide) (fun c_6 => ?_) (fun c_6 => ?_)
      · exact J_1 (by rw [mf_tries, if_neg c_4, if_neg c_5, if_neg c_6]) H locs hP hD hS ls (lv_sub hl [0, 1, 2, 3, 4] rfl)
      · refine lv_iload_n hx hb dX7_tries_24 rfl (lv_at hl 1 rfl) ?_
        refine lv_aload_n hx hb dX7_tries_25 rfl (lv_at hl 0 rfl) ?_
        refine va_get (D := G.1) (ci := 7) (v := .int m_tried) (C := RX7) (T := TX7) (N := 39) hx hb hts in_X7 hown hK.1 hP 0 rfl rfl 30 (Nat.le_of_ble_eq_true rfl) (hts _ q1497) (fun _ h => h) rfl dX7_tries_26 ?_
        refine lv_icmp_lt (tgt := 33) hx hb dX7_tries_29 (by decide) (fun c_7 => ?_) (fun c_7 => ?_)
        · exact J_1 (by rw [mf_tries, if_neg c_4, if_neg c_5, if_pos c_6, if_pos c_7]) H locs hP hD hS ls (lv_sub hl [0, 1, 2, 3, 4] rfl)
        · have e_ : mf_tries m_tried m_triedMany m_at m_beside Wd R set_ many bit nights = (m_tried, m_triedMany) := by rw [mf_tries, if_neg c_4, if_neg c_5, if_pos c_6, if_neg c_7]
          exact zr_mv hx hb hr hlocks hP hD hS dX7_tries_32 rfl (by rw [e_]) trivial
def mf_signal_B167 (m_at : Nat → Int32) (Wd : Nat) (R : Nat) (x : Int32) (y : Int32) (nights : Int32) (t_7 : (Nat → Int32)) (k_9 : Nat) (s_12 : Nat × Int32 × Int32) (s_16 : Nat × Int32 × Int32) : (Nat × Int32 × Int32) ⊕ (Nat × Int32 × Int32) :=
  (if (Wd * R) ≤ s_16.1 then
    .inr (s_16.1, s_16.2.1, s_16.2.2)
  else
    (if (((mf_free m_at) >>> ((nI s_16.1) &&& 31)) &&& 1) = 1 then
      zlet (mf_tries s_16.2.1 s_16.2.2 m_at t_7 Wd R ((((1 : Int32) <<< ((nI k_9) &&& 31)) ||| ((1 : Int32) <<< ((nI s_12.1) &&& 31))) ||| ((1 : Int32) <<< ((nI s_16.1) &&& 31))) 3 (mf_bitOf Wd x y) nights.toNatClampNeg) (fun t_19 =>
      .inl (s_16.1 + 1, t_19.1, t_19.2))
    else
      .inl (s_16.1 + 1, s_16.2.1, s_16.2.2)))
def mf_signal_L167 (m_at : Nat → Int32) (Wd : Nat) (R : Nat) (x : Int32) (y : Int32) (nights : Int32) (t_7 : (Nat → Int32)) (k_9 : Nat) (s_12 : Nat × Int32 × Int32) (s_16 : Nat × Int32 × Int32) : Nat × Int32 × Int32 := zw (mf_signal_B167 m_at Wd R x y nights t_7 k_9 s_12) (s_16) ((Wd * R - s_16.1) + 1) s_16
def mf_signal_B122 (m_at : Nat → Int32) (Wd : Nat) (R : Nat) (x : Int32) (y : Int32) (nights : Int32) (t_7 : (Nat → Int32)) (k_9 : Nat) (s_12 : Nat × Int32 × Int32) : (Nat × Int32 × Int32) ⊕ (Nat × Int32 × Int32) :=
  (if (Wd * R) ≤ s_12.1 then
    .inr (s_12.1, s_12.2.1, s_12.2.2)
  else
    (if (((mf_free m_at) >>> ((nI s_12.1) &&& 31)) &&& 1) = 0 then
      .inl (s_12.1 + 1, s_12.2.1, s_12.2.2)
    else
      zlet (mf_tries s_12.2.1 s_12.2.2 m_at t_7 Wd R (((1 : Int32) <<< ((nI k_9) &&& 31)) ||| ((1 : Int32) <<< ((nI s_12.1) &&& 31))) 2 (mf_bitOf Wd x y) nights.toNatClampNeg) (fun t_15 =>
      zlet (mf_signal_L167 m_at Wd R x y nights t_7 k_9 s_12 (s_12.1 + 1, t_15.1, t_15.2)) (fun t_16 =>
      .inl (s_12.1 + 1, t_16.2.1, t_16.2.2)))))
def mf_signal_L122 (m_at : Nat → Int32) (Wd : Nat) (R : Nat) (x : Int32) (y : Int32) (nights : Int32) (t_7 : (Nat → Int32)) (k_9 : Nat) (s_12 : Nat × Int32 × Int32) : Nat × Int32 × Int32 := zw (mf_signal_B122 m_at Wd R x y nights t_7 k_9) (s_12) ((Wd * R - s_12.1) + 1) s_12
def mf_signal_B82 (m_at : Nat → Int32) (Wd : Nat) (R : Nat) (x : Int32) (y : Int32) (nights : Int32) (t_7 : (Nat → Int32)) (k_9 : Nat) (s_9 : Int32 × Int32) : Int32 × Int32 :=
  (if (((mf_free m_at) >>> ((nI k_9) &&& 31)) &&& 1) = 0 then
    (s_9.1, s_9.2)
  else
    zlet (mf_tries s_9.1 s_9.2 m_at t_7 Wd R ((1 : Int32) <<< ((nI k_9) &&& 31)) 1 (mf_bitOf Wd x y) nights.toNatClampNeg) (fun t_11 =>
    zlet (mf_signal_L122 m_at Wd R x y nights t_7 k_9 (k_9 + 1, t_11.1, t_11.2)) (fun t_12 =>
    (t_12.2.1, t_12.2.2))))
def mf_signal_L82 (m_at : Nat → Int32) (Wd : Nat) (R : Nat) (x : Int32) (y : Int32) (nights : Int32) (t_7 : (Nat → Int32)) (s_9 : Int32 × Int32) : Int32 × Int32 := zf (mf_signal_B82 m_at Wd R x y nights t_7) s_9 (Wd * R)
def mf_signal (m_tried : Int32) (m_triedMany : Int32) (m_at : Nat → Int32) (m_beside : Nat → Int32) (Wd : Nat) (R : Nat) (x : Int32) (y : Int32) (nights : Int32) (what : Int32) : Int32 × Int32 × Int32 × Int32 × (Nat → Int32) :=
  (if (mf_isFrom nights.toInt64 0 30) = true then
    (if what < 0 then
      ((-1), 1, m_tried, m_triedMany, m_beside)
    else
      (if what ≤ 1 then
        (if (mf_wrongHouse m_at Wd R x y) ≤ 0 then
          zlet (mf_laysNear m_at m_beside Wd R) (fun t_7 =>
          zlet (mf_tries (-1) m_triedMany m_at t_7 Wd R 0 0 (mf_bitOf Wd x y) nights.toNatClampNeg) (fun t_8 =>
          zlet (mf_signal_L82 m_at Wd R x y nights t_7 (t_8.1, t_8.2)) (fun s_9 =>
          (if s_9.1 = (-1) then
            ((-1), 6, s_9.1, s_9.2, t_7)
          else
            (if what = 0 then
              (s_9.2, 0, s_9.1, s_9.2, t_7)
            else
              (s_9.1, 0, s_9.1, s_9.2, t_7))))))
        else
          ((-1), mf_wrongHouse m_at Wd R x y, m_tried, m_triedMany, m_beside))
      else
        ((-1), 1, m_tried, m_triedMany, m_beside)))
  else
    ((-1), 1, m_tried, m_triedMany, m_beside))
theorem hd_X7_signal : yX7_signal.cls = RX7 ∧ yX7_signal.cls ≠ "java/lang/invoke/MethodHandle" ∧ yX7_signal.cls ≠ "java/lang/invoke/VarHandle" ∧ (parseMethodDescriptor yX7_signal.desc).map (fun d => d.parameters.length) = some 4 := by decide +kernel
set_option maxHeartbeats 4000000 in
set_option maxRecDepth 100000 in
theorem mt_mf_signal (l : Launch) (G : zG) (ad : Nat → Nat) (m_status : Int32) (m_top : Int64) (m_bottom : Int64) (m_taped : Int32) (m_size : Int32) (m_token : Int32) (m_from : Int32) (m_end : Int32) (m_value : Int32) (m_faultKind : Int32) (m_faultPlace : Int32) (m_faults : Int32) (m_seen : Int32) (m_depth : Int32) (m_counted : Int32) (m_lead : Int32) (m_round : Int32) (m_tried : Int32) (m_triedMany : Int32) (m_drawn : Int32) (m_ranSteps : Int32) (m_isTold : Bool) (m_marks : Int32) (m_at : Nat → Int32) (m_names : Nat → Int64) (m_sort : Nat → Int32) (m_trayMany : Nat → Int32) (m_trays : Nat → Int64) (m_tape : Nat → Int32) (m_text : Nat → Int32) (m_opened : Nat → Int32) (m_beside : Nat → Int32) (m_then : Nat → Int32) (m_ways : Nat → Int64) (m_further : Nat → Int64) (m_canBe : Nat → Int32) (m_loops : Nat → Int32) (m_ran : Nat → Int32) (m_told0 : Nat → Int32) (Wd : Nat) (R : Nat) (nr : Nat) (nc : Nat) (x : Int32) (y : Int32) (nights : Int32) (what : Int32) (hG : mOK m_at Wd R nr nc) (sz : Nat) : Met l yX7_signal (ws_ yX7_signal cX7_signal 11 (some .int)) (zR 4 0 0) (zPm G sz [.ref (ad 0), .int x, .int y, .int nights, .int what] (mW G ad m_status m_top m_bottom m_taped m_size m_token m_from m_end m_value m_faultKind m_faultPlace m_faults m_seen m_depth m_counted m_lead m_round m_tried m_triedMany m_drawn m_ranSteps m_isTold m_marks m_at m_names m_sort m_trayMany m_trays m_tape m_text m_opened m_beside m_then m_ways m_further m_canBe m_loops m_ran m_told0)) (zQm G (True) (some (.int ((mf_signal m_tried m_triedMany m_at m_beside Wd R x y nights what).1))) (mW G ad ((mf_signal m_tried m_triedMany m_at m_beside Wd R x y nights what).2.1) m_top m_bottom m_taped m_size m_token m_from m_end m_value m_faultKind m_faultPlace m_faults m_seen m_depth m_counted m_lead m_round ((mf_signal m_tried m_triedMany m_at m_beside Wd R x y nights what).2.2.1) ((mf_signal m_tried m_triedMany m_at m_beside Wd R x y nights what).2.2.2.1) m_drawn m_ranSteps m_isTold m_marks m_at m_names m_sort m_trayMany m_trays m_tape m_text m_opened ((mf_signal m_tried m_triedMany m_at m_beside Wd R x y nights what).2.2.2.2) m_then m_ways m_further m_canBe m_loops m_ran m_told0) (va_A (mW G ad m_status m_top m_bottom m_taped m_size m_token m_from m_end m_value m_faultKind m_faultPlace m_faults m_seen m_depth m_counted m_lead m_round m_tried m_triedMany m_drawn m_ranSteps m_isTold m_marks m_at m_names m_sort m_trayMany m_trays m_tape m_text m_opened m_beside m_then m_ways m_further m_canBe m_loops m_ran m_told0) sz)) 0 0 (va_A (mW G ad m_status m_top m_bottom m_taped m_size m_token m_from m_end m_value m_faultKind m_faultPlace m_faults m_seen m_depth m_counted m_lead m_round m_tried m_triedMany m_drawn m_ranSteps m_isTold m_marks m_at m_names m_sort m_trayMany m_trays m_tape m_text m_opened m_beside m_then m_ways m_further m_canBe m_loops m_ran m_told0) sz) := by
  refine zr_entM (by decide) (Nat.le_of_ble_eq_true rfl) ?_
  intro p e s m below meth c ⟨hx, hb, hr, hml, hown, hts, hlocks, hnm⟩ ls hl hP hK A hE hA hD hS
  have hown : s.vm.findClass RX7 = some m.cls := hown
  have hl : lv_has ls 11 [(0, .ref (ad 0)), (1, .int x), (2, .int y), (3, .int nights), (4, .int what)] := hl
  obtain ⟨H, hH⟩ : ∃ H, H = s.heap := ⟨_, rfl⟩
  obtain ⟨locs, hlo⟩ : ∃ L : List Loc, L = [] := ⟨_, rfl⟩
  rw [← hH] at hP
  have hS : va_S A s.heap H locs := by rw [hH, hlo]; exact va_S.rf
  have hgo : W p l e (zR 4 0 0) s m ([.ref (ad 0), .int x, .int y, .int nights, .int what] : List Value).toArray below meth c H locs 0 0 (MQ below (zQm G (True) (some (.int ((mf_signal m_tried m_triedMany m_at m_beside Wd R x y nights what).1))) (mW G ad ((mf_signal m_tried m_triedMany m_at m_beside Wd R x y nights what).2.1) m_top m_bottom m_taped m_size m_token m_from m_end m_value m_faultKind m_faultPlace m_faults m_seen m_depth m_counted m_lead m_round ((mf_signal m_tried m_triedMany m_at m_beside Wd R x y nights what).2.2.1) ((mf_signal m_tried m_triedMany m_at m_beside Wd R x y nights what).2.2.2.1) m_drawn m_ranSteps m_isTold m_marks m_at m_names m_sort m_trayMany m_trays m_tape m_text m_opened ((mf_signal m_tried m_triedMany m_at m_beside Wd R x y nights what).2.2.2.2) m_then m_ways m_further m_canBe m_loops m_ran m_told0) A) ([.ref (ad 0), .int x, .int y, .int nights, .int what] : List Value).toArray s 0 0 A) (F0 m 0 ls []) := ?_
  · rw [hH, hlo] at hgo; exact hgo
  clear hH hlo
  have hWR := mOK_WR hG
  have hW0 := mOK_W0 hG
  have hW5 := mOK_W5 hG
  have hR0 := mOK_R0 hG
  have hR6 := mOK_R6 hG
  have hn4 := mOK_n4 hG
  have hc6 := mOK_c6 hG
  refine lv_iload_n hx hb dX7_signal_0 rfl (lv_at hl 3 rfl) ?_
  refine lv_i2l hx hb dX7_signal_1 rfl ?_
  refine lv_lconst (v := 0) hx hb dX7_signal_2 rfl ?_
  refine lv_ldc2 (v := 30) hx hb hown (hts _ q1996) dX7_signal_3 ?_
  refine zr_puS ⟨hx, hb, hml, hown, hts⟩ (mt_mf_isFrom l nights.toInt64 0 30) (va_cwS 3 hts (lw_S q1848 q1849 q144 q1850) rfl rfl rfl hd_X7_isFrom.2 ⟨(Nat.le_of_ble_eq_true rfl), (Nat.le_of_ble_eq_true rfl)⟩) rfl hl.1 rfl (Nat.le_of_ble_eq_true rfl) dX7_signal_6 ⟨Nat.le_refl _, Nat.le_refl _⟩ ?_
  refine zr_eqB (mf_isFrom nights.toInt64 0 30) (tgt := 23) hx hb dX7_signal_9 (by decide) (fun c_1 => ?_) (fun c_1 => ?_)
  · refine lv_iconst (v := 1) hx hb dX7_signal_23 (by decide) ?_
    refine lv_goto (tgt := 33) hx hb dX7_signal_24 (by decide) ?_
    refine lv_istore (lv' := [(5, .int 1), (0, .ref (ad 0)), (1, .int x), (2, .int y), (3, .int nights), (4, .int what)]) hx hb dX7_signal_33 hl (by decide) rfl (fun ls hl => ?_)
    refine lv_iload hx hb dX7_signal_35 (lv_at hl 0 rfl) ?_
    refine lv_if_le (tgt := 47) hx hb dX7_signal_37 (by decide) (fun z => absurd z (by decide)) (fun _ => ?_)
    refine lv_aload_n hx hb dX7_signal_40 rfl (lv_at hl 1 rfl) ?_
    refine lv_iload hx hb dX7_signal_41 (lv_at hl 0 rfl) ?_
    refine zr_muV (F := ()) (ff := fun _ => True) (rr := fun _ => some (.int (-1))) (w1 := fun _ => (mW G ad 1 m_top m_bottom m_taped m_size m_token m_from m_end m_value m_faultKind m_faultPlace m_faults m_seen m_depth m_counted m_lead m_round m_tried m_triedMany m_drawn m_ranSteps m_isTold m_marks m_at m_names m_sort m_trayMany m_trays m_tape m_text m_opened m_beside m_then m_ways m_further m_canBe m_loops m_ran m_told0)) ⟨hx, hb, hml, hown, hts⟩ (mt_mf_refuse l G ad m_status m_top m_bottom m_taped m_size m_token m_from m_end m_value m_faultKind m_faultPlace m_faults m_seen m_depth m_counted m_lead m_round m_tried m_triedMany m_drawn m_ranSteps m_isTold m_marks m_at m_names m_sort m_trayMany m_trays m_tape m_text m_opened m_beside m_then m_ways m_further m_canBe m_loops m_ran m_told0 1 H.size) (cwV 1 hts (lw_V q1666 q1668 qs66 q144 q1669) rfl rfl rfl hd_X7_refuse ⟨(Nat.le_of_ble_eq_true rfl), (Nat.le_of_ble_eq_true rfl)⟩) hP hD hS hA hK hE 0 7 rfl rfl rfl hl.1 rfl (Nat.le_of_ble_eq_true rfl) dX7_signal_43 ⟨Nat.le_refl _, Nat.le_refl _⟩ (fun _ _ _ H locs hP hD hS _ => ?_)
    refine W.eq (g2 := F0 m 46 ls [.int (-1)]) rfl ?_
    have e_ : mf_signal m_tried m_triedMany m_at m_beside Wd R x y nights what = ((-1), 1, m_tried, m_triedMany, m_beside) := by rw [mf_signal, if_neg c_1]
    exact zr_mi hx hb hr hlocks hP hD hS dX7_signal_46 (by rw [e_])  (by rw [e_]) trivial
  · obtain ⟨hm0, hm1, hm2⟩ := isFrom_t (a := 0) (N := 30) (by decide) (by decide) c_1
    refine lv_iload hx hb dX7_signal_12 (lv_at hl 4 rfl) ?_
    refine lv_if_lt (tgt := 23) hx hb dX7_signal_14 (by decide) (fun c_3 => ?_) (fun c_3 => ?_)
    · refine lv_iconst (v := 1) hx hb dX7_signal_23 (by decide) ?_
      refine lv_goto (tgt := 33) hx hb dX7_signal_24 (by decide) ?_
      refine lv_istore (lv' := [(5, .int 1), (0, .ref (ad 0)), (1, .int x), (2, .int y), (3, .int nights), (4, .int what)]) hx hb dX7_signal_33 hl (by decide) rfl (fun ls hl => ?_)
      refine lv_iload hx hb dX7_signal_35 (lv_at hl 0 rfl) ?_
      refine lv_if_le (tgt := 47) hx hb dX7_signal_37 (by decide) (fun z => absurd z (by decide)) (fun _ => ?_)
      refine lv_aload_n hx hb dX7_signal_40 rfl (lv_at hl 1 rfl) ?_
      refine lv_iload hx hb dX7_signal_41 (lv_at hl 0 rfl) ?_
      refine zr_muV (F := ()) (ff := fun _ => True) (rr := fun _ => some (.int (-1))) (w1 := fun _ => (mW G ad 1 m_top m_bottom m_taped m_size m_token m_from m_end m_value m_faultKind m_faultPlace m_faults m_seen m_depth m_counted m_lead m_round m_tried m_triedMany m_drawn m_ranSteps m_isTold m_marks m_at m_names m_sort m_trayMany m_trays m_tape m_text m_opened m_beside m_then m_ways m_further m_canBe m_loops m_ran m_told0)) ⟨hx, hb, hml, hown, hts⟩ (mt_mf_refuse l G ad m_status m_top m_bottom m_taped m_size m_token m_from m_end m_value m_faultKind m_faultPlace m_faults m_seen m_depth m_counted m_lead m_round m_tried m_triedMany m_drawn m_ranSteps m_isTold m_marks m_at m_names m_sort m_trayMany m_trays m_tape m_text m_opened m_beside m_then m_ways m_further m_canBe m_loops m_ran m_told0 1 H.size) (cwV 1 hts (lw_V q1666 q1668 qs66 q144 q1669) rfl rfl rfl hd_X7_refuse ⟨(Nat.le_of_ble_eq_true rfl), (Nat.le_of_ble_eq_true rfl)⟩) hP hD hS hA hK hE 0 7 rfl rfl rfl hl.1 rfl (Nat.le_of_ble_eq_true rfl) dX7_signal_43 ⟨Nat.le_refl _, Nat.le_refl _⟩ (fun _ _ _ H locs hP hD hS _ => ?_)
      refine W.eq (g2 := F0 m 46 ls [.int (-1)]) rfl ?_
      have e_ : mf_signal m_tried m_triedMany m_at m_beside Wd R x y nights what = ((-1), 1, m_tried, m_triedMany, m_beside) := by rw [mf_signal, if_pos c_1, if_pos c_3]
      exact zr_mi hx hb hr hlocks hP hD hS dX7_signal_46 (by rw [e_])  (by rw [e_]) trivial
    · refine lv_iload hx hb dX7_signal_17 (lv_at hl 4 rfl) ?_
      refine lv_iconst (v := 1) hx hb dX7_signal_19 (by decide) ?_
      refine lv_icmp_le (tgt := 27) hx hb dX7_signal_20 (by decide) (fun c_5 => ?_) (fun c_5 => ?_)
      · refine lv_aload_n hx hb dX7_signal_27 rfl (lv_at hl 0 rfl) ?_
        refine lv_iload_n hx hb dX7_signal_28 rfl (lv_at hl 1 rfl) ?_
        refine lv_iload_n hx hb dX7_signal_29 rfl (lv_at hl 2 rfl) ?_
        refine zr_obV ⟨hx, hb, hml, hown, hts⟩ (mt_mf_wrongHouse l G ad m_status m_top m_bottom m_taped m_size m_token m_from m_end m_value m_faultKind m_faultPlace m_faults m_seen m_depth m_counted m_lead m_round m_tried m_triedMany m_drawn m_ranSteps m_isTold m_marks m_at m_names m_sort m_trayMany m_trays m_tape m_text m_opened m_beside m_then m_ways m_further m_canBe m_loops m_ran m_told0 Wd R nr nc x y hG) (cwV 2 hts (lw_V q1799 q1801 qs93 q144 q1802) rfl rfl rfl hd_X7_wrongHouse ⟨(Nat.le_of_ble_eq_true rfl), (Nat.le_of_ble_eq_true rfl)⟩) hP hK (zE_o hE hS) 0 7 rfl rfl rfl hl.1 rfl (Nat.le_of_ble_eq_true rfl) dX7_signal_30 ⟨Nat.le_refl _, Nat.le_refl _⟩ ?_
        refine lv_istore (lv' := [(5, .int (mf_wrongHouse m_at Wd R x y)), (0, .ref (ad 0)), (1, .int x), (2, .int y), (3, .int nights), (4, .int what)]) hx hb dX7_signal_33 hl (by decide) rfl (fun ls hl => ?_)
        refine lv_iload hx hb dX7_signal_35 (lv_at hl 0 rfl) ?_
        refine lv_if_le (tgt := 47) hx hb dX7_signal_37 (by decide) (fun c_6 => ?_) (fun c_6 => ?_)
        · have hl : lv_has ls 11 [(5, .int (mf_wrongHouse m_at Wd R x y)), (0, .ref (ad 0)), (1, .int x), (2, .int y), (3, .int (nI nights.toNatClampNeg)), (4, .int what)] := by rw [← (z_nn hm0 : nights = nI nights.toNatClampNeg)]; exact hl
          refine lv_aload_n hx hb dX7_signal_47 rfl (lv_at hl 1 rfl) ?_
          refine zr_muV (F := mf_laysNear m_at m_beside Wd R) (ff := fun t_7 => True) (rr := fun t_7 => none) (w1 := fun t_7 => (mW G ad m_status m_top m_bottom m_taped m_size m_token m_from m_end m_value m_faultKind m_faultPlace m_faults m_seen m_depth m_counted m_lead m_round m_tried m_triedMany m_drawn m_ranSteps m_isTold m_marks m_at m_names m_sort m_trayMany m_trays m_tape m_text m_opened t_7 m_then m_ways m_further m_canBe m_loops m_ran m_told0)) ⟨hx, hb, hml, hown, hts⟩ (mt_mf_laysNear l G ad m_status m_top m_bottom m_taped m_size m_token m_from m_end m_value m_faultKind m_faultPlace m_faults m_seen m_depth m_counted m_lead m_round m_tried m_triedMany m_drawn m_ranSteps m_isTold m_marks m_at m_names m_sort m_trayMany m_trays m_tape m_text m_opened m_beside m_then m_ways m_further m_canBe m_loops m_ran m_told0 Wd R nr nc hG H.size) (cwV 0 hts (lw_V q1889 q1891 qs105 q144 q1892) rfl rfl rfl hd_X7_laysNear ⟨(Nat.le_of_ble_eq_true rfl), (Nat.le_of_ble_eq_true rfl)⟩) hP hD hS hA hK hE 0 7 rfl rfl rfl hl.1 rfl (Nat.le_of_ble_eq_true rfl) dX7_signal_48 ⟨Nat.le_refl _, Nat.le_refl _⟩ (fun t_7 ht_7 hft_7 H locs hP hD hS _ => ?_)
          refine W.eq (g2 := F0 m 51 ls []) rfl ?_
          refine lv_aload_n hx hb dX7_signal_51 rfl (lv_at hl 1 rfl) ?_
          refine lv_iload_n hx hb dX7_signal_52 rfl (lv_at hl 2 rfl) ?_
          refine lv_iload_n hx hb dX7_signal_53 rfl (lv_at hl 3 rfl) ?_
          refine zr_obV ⟨hx, hb, hml, hown, hts⟩ (mt_mf_bitOf l G ad m_status m_top m_bottom m_taped m_size m_token m_from m_end m_value m_faultKind m_faultPlace m_faults m_seen m_depth m_counted m_lead m_round m_tried m_triedMany m_drawn m_ranSteps m_isTold m_marks m_at m_names m_sort m_trayMany m_trays m_tape m_text m_opened t_7 m_then m_ways m_further m_canBe m_loops m_ran m_told0 Wd R nr nc x y hG) (cwV 2 hts (lw_V q1807 q1809 qs95 q144 q1810) rfl rfl rfl hd_X7_bitOf ⟨(Nat.le_of_ble_eq_true rfl), (Nat.le_of_ble_eq_true rfl)⟩) hP hK (zE_o hE hS) 0 7 rfl rfl rfl hl.1 rfl (Nat.le_of_ble_eq_true rfl) dX7_signal_54 ⟨Nat.le_refl _, Nat.le_refl _⟩ ?_
          refine lv_istore (lv' := [(6, .int (mf_bitOf Wd x y)), (5, .int (mf_wrongHouse m_at Wd R x y)), (0, .ref (ad 0)), (1, .int x), (2, .int y), (3, .int (nI nights.toNatClampNeg)), (4, .int what)]) hx hb dX7_signal_57 hl (by decide) rfl (fun ls hl => ?_)
          refine lv_aload_n hx hb dX7_signal_59 rfl (lv_at hl 2 rfl) ?_
          refine zr_obV ⟨hx, hb, hml, hown, hts⟩ (mt_mf_free l G ad m_status m_top m_bottom m_taped m_size m_token m_from m_end m_value m_faultKind m_faultPlace m_faults m_seen m_depth m_counted m_lead m_round m_tried m_triedMany m_drawn m_ranSteps m_isTold m_marks m_at m_names m_sort m_trayMany m_trays m_tape m_text m_opened t_7 m_then m_ways m_further m_canBe m_loops m_ran m_told0) (cwV 0 hts (lw_V q1855 q1857 qs102 q144 q1858) rfl rfl rfl hd_X7_free ⟨(Nat.le_of_ble_eq_true rfl), (Nat.le_of_ble_eq_true rfl)⟩) hP hK (zE_o hE hS) 0 7 rfl rfl rfl hl.1 rfl (Nat.le_of_ble_eq_true rfl) dX7_signal_60 ⟨Nat.le_refl _, Nat.le_refl _⟩ ?_
          refine lv_istore (lv' := [(7, .int (mf_free m_at)), (6, .int (mf_bitOf Wd x y)), (5, .int (mf_wrongHouse m_at Wd R x y)), (0, .ref (ad 0)), (1, .int x), (2, .int y), (3, .int (nI nights.toNatClampNeg)), (4, .int what)]) hx hb dX7_signal_63 hl (by decide) rfl (fun ls hl => ?_)
          refine lv_aload_n hx hb dX7_signal_65 rfl (lv_at hl 3 rfl) ?_
          refine lv_iconst (v := (-1)) hx hb dX7_signal_66 (by decide) ?_
          refine va_put (D := G.1) (ci := 7) (v := .int (-1)) (ty := .int) (C := RX7) (T := TX7) (N := 39) hx hb hts in_X7 tyX7 tyX7_ok nmX7 hown hK.1 hP hD hS 0 rfl rfl 30 (Nat.le_of_ble_eq_true rfl) (hts _ q1497) (fun _ h => h) rfl (tyX7_ok 30 (Nat.le_of_ble_eq_true rfl)) rfl rfl (Nat.le_of_ble_eq_true rfl) dX7_signal_67 (fun H locs hP hD hS => ?_)
          have hP : va_P G.1 zcl (mW G ad m_status m_top m_bottom m_taped m_size m_token m_from m_end m_value m_faultKind m_faultPlace m_faults m_seen m_depth m_counted m_lead m_round (-1) m_triedMany m_drawn m_ranSteps m_isTold m_marks m_at m_names m_sort m_trayMany m_trays m_tape m_text m_opened t_7 m_then m_ways m_further m_canBe m_loops m_ran m_told0) H := hP
          have hD : va_D A (mW G ad m_status m_top m_bottom m_taped m_size m_token m_from m_end m_value m_faultKind m_faultPlace m_faults m_seen m_depth m_counted m_lead m_round (-1) m_triedMany m_drawn m_ranSteps m_isTold m_marks m_at m_names m_sort m_trayMany m_trays m_tape m_text m_opened t_7 m_then m_ways m_further m_canBe m_loops m_ran m_told0) := hD
          refine lv_aload_n hx hb dX7_signal_70 rfl (lv_at hl 3 rfl) ?_
          refine lv_iconst (v := 0) hx hb dX7_signal_71 (by decide) ?_
          refine lv_iconst (v := 0) hx hb dX7_signal_72 (by decide) ?_
          refine lv_iload hx hb dX7_signal_73 (lv_at hl 1 rfl) ?_
          refine lv_iload_n hx hb dX7_signal_75 rfl (lv_at hl 6 rfl) ?_
          refine zr_muV (F := mf_tries (-1) m_triedMany m_at t_7 Wd R 0 0 (mf_bitOf Wd x y) nights.toNatClampNeg) (ff := fun t_8 => True) (rr := fun t_8 => none) (w1 := fun t_8 => (mW G ad m_status m_top m_bottom m_taped m_size m_token m_from m_end m_value m_faultKind m_faultPlace m_faults m_seen m_depth m_counted m_lead m_round t_8.1 t_8.2 m_drawn m_ranSteps m_isTold m_marks m_at m_names m_sort m_trayMany m_trays m_tape m_text m_opened t_7 m_then m_ways m_further m_canBe m_loops m_ran m_told0)) ⟨hx, hb, hml, hown, hts⟩ (mt_mf_tries l G ad m_status m_top m_bottom m_taped m_size m_token m_from m_end m_value m_faultKind m_faultPlace m_faults m_seen m_depth m_counted m_lead m_round (-1) m_triedMany m_drawn m_ranSteps m_isTold m_marks m_at m_names m_sort m_trayMany m_trays m_tape m_text m_opened t_7 m_then m_ways m_further m_canBe m_loops m_ran m_told0 Wd R nr nc 0 0 (mf_bitOf Wd x y) nights.toNatClampNeg hG (by omega) H.size) (cwV 4 hts (lw_V q1997 q1999 qs117 q144 q2000) rfl rfl rfl hd_X7_tries ⟨(Nat.le_of_ble_eq_true rfl), (Nat.le_of_ble_eq_true rfl)⟩) hP hD hS hA hK hE 0 7 rfl rfl rfl hl.1 rfl (Nat.le_of_ble_eq_true rfl) dX7_signal_76 ⟨Nat.le_refl _, Nat.le_refl _⟩ (fun t_8 ht_8 hft_8 H locs hP hD hS _ => ?_)
          refine W.eq (g2 := F0 m 79 ls []) rfl ?_
          refine lv_iconst (v := 0) hx hb dX7_signal_79 (by decide) ?_
          refine lv_istore (lv' := [(8, .int 0), (7, .int (mf_free m_at)), (6, .int (mf_bitOf Wd x y)), (5, .int (mf_wrongHouse m_at Wd R x y)), (0, .ref (ad 0)), (1, .int x), (2, .int y), (3, .int (nI nights.toNatClampNeg)), (4, .int what)]) hx hb dX7_signal_80 hl (by decide) rfl (fun ls hl => ?_)
          have hlp_9 : ∀ (n k_9 : Nat) (s_9 : Int32 × Int32), k_9 ≤ Wd * R → Wd * R < k_9 + n → zf (mf_signal_B82 m_at Wd R x y nights t_7) (t_8.1, t_8.2) k_9 = s_9 → ∀ (H : Heap) (locs : List Loc), va_P G.1 zcl (mW G ad m_status m_top m_bottom m_taped m_size m_token m_from m_end m_value m_faultKind m_faultPlace m_faults m_seen m_depth m_counted m_lead m_round s_9.1 s_9.2 m_drawn m_ranSteps m_isTold m_marks m_at m_names m_sort m_trayMany m_trays m_tape m_text m_opened t_7 m_then m_ways m_further m_canBe m_loops m_ran m_told0) H → va_D A (mW G ad m_status m_top m_bottom m_taped m_size m_token m_from m_end m_value m_faultKind m_faultPlace m_faults m_seen m_depth m_counted m_lead m_round s_9.1 s_9.2 m_drawn m_ranSteps m_isTold m_marks m_at m_names m_sort m_trayMany m_trays m_tape m_text m_opened t_7 m_then m_ways m_further m_canBe m_loops m_ran m_told0) → va_S A s.heap H locs → ∀ ls : Array Slot, lv_has ls 11 [(8, .int (nI k_9)), (7, .int (mf_free m_at)), (6, .int (mf_bitOf Wd x y)), (0, .ref (ad 0)), (3, .int (nI nights.toNatClampNeg)), (4, .int what)] → W p l e (zR 4 0 0) s m ([.ref (ad 0), .int x, .int y, .int nights, .int what] : List Value).toArray below meth c H locs 0 0 (MQ below (zQm G (True) (some (.int ((mf_signal m_tried m_triedMany m_at m_beside Wd R x y nights what).1))) (mW G ad ((mf_signal m_tried m_triedMany m_at m_beside Wd R x y nights what).2.1) m_top m_bottom m_taped m_size m_token m_from m_end m_value m_faultKind m_faultPlace m_faults m_seen m_depth m_counted m_lead m_round ((mf_signal m_tried m_triedMany m_at m_beside Wd R x y nights what).2.2.1) ((mf_signal m_tried m_triedMany m_at m_beside Wd R x y nights what).2.2.2.1) m_drawn m_ranSteps m_isTold m_marks m_at m_names m_sort m_trayMany m_trays m_tape m_text m_opened ((mf_signal m_tried m_triedMany m_at m_beside Wd R x y nights what).2.2.2.2) m_then m_ways m_further m_canBe m_loops m_ran m_told0) A) ([.ref (ad 0), .int x, .int y, .int nights, .int what] : List Value).toArray s 0 0 A) (F0 m 82 ls []) := by
            intro n
            induction n with
            | zero => intro k_9 s_9 h1 h2; exact absurd h2 (by omega)
            | succ n ih_9 =>
              intro k_9 s_9 hk_9 hn_9 hst_9 H locs hP hD hS ls hl
              refine lv_iload hx hb dX7_signal_82 (lv_at hl 0 rfl) ?_
              refine lv_aload_n hx hb dX7_signal_84 rfl (lv_at hl 3 rfl) ?_
              refine zr_obV ⟨hx, hb, hml, hown, hts⟩ (mt_mf_places l G ad m_status m_top m_bottom m_taped m_size m_token m_from m_end m_value m_faultKind m_faultPlace m_faults m_seen m_depth m_counted m_lead m_round s_9.1 s_9.2 m_drawn m_ranSteps m_isTold m_marks m_at m_names m_sort m_trayMany m_trays m_tape m_text m_opened t_7 m_then m_ways m_further m_canBe m_loops m_ran m_told0 Wd R nr nc hG) (cwV 0 hts (lw_V q1815 q1817 qs97 q144 q1818) rfl rfl rfl hd_X7_places ⟨(Nat.le_of_ble_eq_true rfl), (Nat.le_of_ble_eq_true rfl)⟩) hP hK (zE_o hE hS) 0 7 rfl rfl rfl hl.1 rfl (Nat.le_of_ble_eq_true rfl) dX7_signal_85 ⟨Nat.le_refl _, Nat.le_refl _⟩ ?_
              refine zr_ge k_9 (Wd * R) (by omega) (by omega) (tgt := 227) hx hb dX7_signal_88 (by decide) (fun c_9 => ?_) (fun c_9 => ?_)
              · have ek_9 : k_9 = Wd * R := Nat.le_antisymm hk_9 c_9
                have hs_9 : mf_signal_L82 m_at Wd R x y nights t_7 (t_8.1, t_8.2) = s_9 := by rw [ek_9] at hst_9; exact hst_9
                have hl := lv_sub hl (l' := _) [1, 2, 3, 4, 5] rfl
                refine lv_aload_n hx hb dX7_signal_227 rfl (lv_at hl 2 rfl) ?_
                refine va_get (D := G.1) (ci := 7) (v := .int s_9.1) (C := RX7) (T := TX7) (N := 39) hx hb hts in_X7 hown hK.1 hP 0 rfl rfl 30 (Nat.le_of_ble_eq_true rfl) (hts _ q1497) (fun _ h => h) rfl dX7_signal_228 ?_
                refine lv_iconst (v := (-1)) hx hb dX7_signal_231 (by decide) ?_
                refine lv_icmp_ne (tgt := 244) hx hb dX7_signal_232 (by decide) (fun c_20 => ?_) (fun c_20 => ?_)
                · refine lv_aload_n hx hb dX7_signal_244 rfl (lv_at hl 2 rfl) ?_
                  refine lv_iload hx hb dX7_signal_245 (lv_at hl 4 rfl) ?_
                  refine lv_if_ne (tgt := 257) hx hb dX7_signal_247 (by decide) (fun c_21 => ?_) (fun c_21 => ?_)
                  · refine lv_aload_n hx hb dX7_signal_257 rfl (lv_at hl 2 rfl) ?_
                    refine va_get (D := G.1) (ci := 7) (v := .int s_9.1) (C := RX7) (T := TX7) (N := 39) hx hb hts in_X7 hown hK.1 hP 0 rfl rfl 30 (Nat.le_of_ble_eq_true rfl) (hts _ q1497) (fun _ h => h) rfl dX7_signal_258 ?_
                    refine zr_muV (F := ()) (ff := fun _ => True) (rr := fun _ => some (.int s_9.1)) (w1 := fun _ => (mW G ad 0 m_top m_bottom m_taped m_size m_token m_from m_end m_value m_faultKind m_faultPlace m_faults m_seen m_depth m_counted m_lead m_round s_9.1 s_9.2 m_drawn m_ranSteps m_isTold m_marks m_at m_names m_sort m_trayMany m_trays m_tape m_text m_opened t_7 m_then m_ways m_further m_canBe m_loops m_ran m_told0)) ⟨hx, hb, hml, hown, hts⟩ (mt_mf_gives l G ad m_status m_top m_bottom m_taped m_size m_token m_from m_end m_value m_faultKind m_faultPlace m_faults m_seen m_depth m_counted m_lead m_round s_9.1 s_9.2 m_drawn m_ranSteps m_isTold m_marks m_at m_names m_sort m_trayMany m_trays m_tape m_text m_opened t_7 m_then m_ways m_further m_canBe m_loops m_ran m_told0 s_9.1 H.size) (cwV 1 hts (lw_V q1751 q1753 qs85 q144 q1754) rfl rfl rfl hd_X7_gives ⟨(Nat.le_of_ble_eq_true rfl), (Nat.le_of_ble_eq_true rfl)⟩) hP hD hS hA hK hE 0 7 rfl rfl rfl hl.1 rfl (Nat.le_of_ble_eq_true rfl) dX7_signal_261 ⟨Nat.le_refl _, Nat.le_refl _⟩ (fun _ _ _ H locs hP hD hS _ => ?_)
                    refine W.eq (g2 := F0 m 264 ls [.int s_9.1]) rfl ?_
                    have e_ : mf_signal m_tried m_triedMany m_at m_beside Wd R x y nights what = (s_9.1, 0, s_9.1, s_9.2, t_7) := by rw [mf_signal, if_pos c_1, if_neg c_3, if_pos c_5, if_pos c_6, zlet_eq ht_7, zlet_eq ht_8, zlet_eq hs_9, if_neg c_20, if_neg c_21]
                    exact zr_mi hx hb hr hlocks hP hD hS dX7_signal_264 (by rw [e_])  (by rw [e_]) trivial
                  · refine lv_aload_n hx hb dX7_signal_250 rfl (lv_at hl 2 rfl) ?_
                    refine va_get (D := G.1) (ci := 7) (v := .int s_9.2) (C := RX7) (T := TX7) (N := 39) hx hb hts in_X7 hown hK.1 hP 0 rfl rfl 31 (Nat.le_of_ble_eq_true rfl) (hts _ q1498) (fun _ h => h) rfl dX7_signal_251 ?_
                    refine lv_goto (tgt := 261) hx hb dX7_signal_254 (by decide) ?_
                    refine zr_muV (F := ()) (ff := fun _ => True) (rr := fun _ => some (.int s_9.2)) (w1 := fun _ => (mW G ad 0 m_top m_bottom m_taped m_size m_token m_from m_end m_value m_faultKind m_faultPlace m_faults m_seen m_depth m_counted m_lead m_round s_9.1 s_9.2 m_drawn m_ranSteps m_isTold m_marks m_at m_names m_sort m_trayMany m_trays m_tape m_text m_opened t_7 m_then m_ways m_further m_canBe m_loops m_ran m_told0)) ⟨hx, hb, hml, hown, hts⟩ (mt_mf_gives l G ad m_status m_top m_bottom m_taped m_size m_token m_from m_end m_value m_faultKind m_faultPlace m_faults m_seen m_depth m_counted m_lead m_round s_9.1 s_9.2 m_drawn m_ranSteps m_isTold m_marks m_at m_names m_sort m_trayMany m_trays m_tape m_text m_opened t_7 m_then m_ways m_further m_canBe m_loops m_ran m_told0 s_9.2 H.size) (cwV 1 hts (lw_V q1751 q1753 qs85 q144 q1754) rfl rfl rfl hd_X7_gives ⟨(Nat.le_of_ble_eq_true rfl), (Nat.le_of_ble_eq_true rfl)⟩) hP hD hS hA hK hE 0 7 rfl rfl rfl hl.1 rfl (Nat.le_of_ble_eq_true rfl) dX7_signal_261 ⟨Nat.le_refl _, Nat.le_refl _⟩ (fun _ _ _ H locs hP hD hS _ => ?_)
                    refine W.eq (g2 := F0 m 264 ls [.int s_9.2]) rfl ?_
                    have e_ : mf_signal m_tried m_triedMany m_at m_beside Wd R x y nights what = (s_9.2, 0, s_9.1, s_9.2, t_7) := by rw [mf_signal, if_pos c_1, if_neg c_3, if_pos c_5, if_pos c_6, zlet_eq ht_7, zlet_eq ht_8, zlet_eq hs_9, if_neg c_20, if_pos c_21]
                    exact zr_mi hx hb hr hlocks hP hD hS dX7_signal_264 (by rw [e_])  (by rw [e_]) trivial
                · refine lv_aload_n hx hb dX7_signal_235 rfl (lv_at hl 2 rfl) ?_
                  refine lv_bipush (v := 6) hx hb dX7_signal_236 (by decide) ?_
                  refine zr_muV (F := ()) (ff := fun _ => True) (rr := fun _ => some (.int (-1))) (w1 := fun _ => (mW G ad 6 m_top m_bottom m_taped m_size m_token m_from m_end m_value m_faultKind m_faultPlace m_faults m_seen m_depth m_counted m_lead m_round s_9.1 s_9.2 m_drawn m_ranSteps m_isTold m_marks m_at m_names m_sort m_trayMany m_trays m_tape m_text m_opened t_7 m_then m_ways m_further m_canBe m_loops m_ran m_told0)) ⟨hx, hb, hml, hown, hts⟩ (mt_mf_refuse l G ad m_status m_top m_bottom m_taped m_size m_token m_from m_end m_value m_faultKind m_faultPlace m_faults m_seen m_depth m_counted m_lead m_round s_9.1 s_9.2 m_drawn m_ranSteps m_isTold m_marks m_at m_names m_sort m_trayMany m_trays m_tape m_text m_opened t_7 m_then m_ways m_further m_canBe m_loops m_ran m_told0 6 H.size) (cwV 1 hts (lw_V q1666 q1668 qs66 q144 q1669) rfl rfl rfl hd_X7_refuse ⟨(Nat.le_of_ble_eq_true rfl), (Nat.le_of_ble_eq_true rfl)⟩) hP hD hS hA hK hE 0 7 rfl rfl rfl hl.1 rfl (Nat.le_of_ble_eq_true rfl) dX7_signal_238 ⟨Nat.le_refl _, Nat.le_refl _⟩ (fun _ _ _ H locs hP hD hS _ => ?_)
                  refine W.eq (g2 := F0 m 241 ls [.int (-1)]) rfl ?_
                  refine lv_goto (tgt := 264) hx hb dX7_signal_241 (by decide) ?_
                  have e_ : mf_signal m_tried m_triedMany m_at m_beside Wd R x y nights what = ((-1), 6, s_9.1, s_9.2, t_7) := by rw [mf_signal, if_pos c_1, if_neg c_3, if_pos c_5, if_pos c_6, zlet_eq ht_7, zlet_eq ht_8, zlet_eq hs_9, if_pos c_20]
                  exact zr_mi hx hb hr hlocks hP hD hS dX7_signal_264 (by rw [e_])  (by rw [e_]) trivial
              · have hlt_9 : k_9 < Wd * R := Nat.lt_of_not_le c_9
                refine lv_iload hx hb dX7_signal_91 (lv_at hl 1 rfl) ?_
                refine lv_iload hx hb dX7_signal_93 (lv_at hl 0 rfl) ?_
                refine lv_ishr hx hb dX7_signal_95 ?_
                refine lv_iconst (v := 1) hx hb dX7_signal_96 (by decide) ?_
                refine lv_iand hx hb dX7_signal_97 ?_
                refine lv_if_ne (tgt := 104) hx hb dX7_signal_98 (by decide) (fun c_10 => ?_) (fun c_10 => ?_)
                · refine lv_aload_n hx hb dX7_signal_104 rfl (lv_at hl 3 rfl) ?_
                  refine lv_iconst (v := 1) hx hb dX7_signal_105 (by decide) ?_
                  refine lv_iload hx hb dX7_signal_106 (lv_at hl 0 rfl) ?_
                  refine lv_ishl hx hb dX7_signal_108 ?_
                  refine lv_iconst (v := 1) hx hb dX7_signal_109 (by decide) ?_
                  refine lv_iload hx hb dX7_signal_110 (lv_at hl 2 rfl) ?_
                  refine lv_iload_n hx hb dX7_signal_112 rfl (lv_at hl 4 rfl) ?_
                  refine zr_muV (F := mf_tries s_9.1 s_9.2 m_at t_7 Wd R ((1 : Int32) <<< ((nI k_9) &&& 31)) 1 (mf_bitOf Wd x y) nights.toNatClampNeg) (ff := fun t_11 => True) (rr := fun t_11 => none) (w1 := fun t_11 => (mW G ad m_status m_top m_bottom m_taped m_size m_token m_from m_end m_value m_faultKind m_faultPlace m_faults m_seen m_depth m_counted m_lead m_round t_11.1 t_11.2 m_drawn m_ranSteps m_isTold m_marks m_at m_names m_sort m_trayMany m_trays m_tape m_text m_opened t_7 m_then m_ways m_further m_canBe m_loops m_ran m_told0)) ⟨hx, hb, hml, hown, hts⟩ (mt_mf_tries l G ad m_status m_top m_bottom m_taped m_size m_token m_from m_end m_value m_faultKind m_faultPlace m_faults m_seen m_depth m_counted m_lead m_round s_9.1 s_9.2 m_drawn m_ranSteps m_isTold m_marks m_at m_names m_sort m_trayMany m_trays m_tape m_text m_opened t_7 m_then m_ways m_further m_canBe m_loops m_ran m_told0 Wd R nr nc ((1 : Int32) <<< ((nI k_9) &&& 31)) 1 (mf_bitOf Wd x y) nights.toNatClampNeg hG (by omega) H.size) (cwV 4 hts (lw_V q1997 q1999 qs117 q144 q2000) rfl rfl rfl hd_X7_tries ⟨(Nat.le_of_ble_eq_true rfl), (Nat.le_of_ble_eq_true rfl)⟩) hP hD hS hA hK hE 0 7 rfl rfl rfl hl.1 rfl (Nat.le_of_ble_eq_true rfl) dX7_signal_113 ⟨Nat.le_refl _, Nat.le_refl _⟩ (fun t_11 ht_11 hft_11 H locs hP hD hS _ => ?_)
                  refine W.eq (g2 := F0 m 116 ls []) rfl ?_
                  refine lv_iload hx hb dX7_signal_116 (lv_at hl 0 rfl) ?_
                  refine lv_iconst (v := 1) hx hb dX7_signal_118 (by decide) ?_
                  refine zr_iaddN k_9 1 hx hb dX7_signal_119 ?_
                  refine lv_istore (lv' := [(9, .int (nI (k_9 + 1))), (8, .int (nI k_9)), (7, .int (mf_free m_at)), (6, .int (mf_bitOf Wd x y)), (0, .ref (ad 0)), (3, .int (nI nights.toNatClampNeg)), (4, .int what)]) hx hb dX7_signal_120 hl (by decide) rfl (fun ls hl => ?_)
                  have hx_12 : ∀ t_12 : Nat × Int32 × Int32, mf_signal_L122 m_at Wd R x y nights t_7 k_9 (k_9 + 1, t_11.1, t_11.2) = t_12 → ∀ (H : Heap) (locs : List Loc), va_P G.1 zcl (mW G ad m_status m_top m_bottom m_taped m_size m_token m_from m_end m_value m_faultKind m_faultPlace m_faults m_seen m_depth m_counted m_lead m_round t_12.2.1 t_12.2.2 m_drawn m_ranSteps m_isTold m_marks m_at m_names m_sort m_trayMany m_trays m_tape m_text m_opened t_7 m_then m_ways m_further m_canBe m_loops m_ran m_told0) H → va_D A (mW G ad m_status m_top m_bottom m_taped m_size m_token m_from m_end m_value m_faultKind m_faultPlace m_faults m_seen m_depth m_counted m_lead m_round t_12.2.1 t_12.2.2 m_drawn m_ranSteps m_isTold m_marks m_at m_names m_sort m_trayMany m_trays m_tape m_text m_opened t_7 m_then m_ways m_further m_canBe m_loops m_ran m_told0) → va_S A s.heap H locs → ∀ ls : Array Slot, lv_has ls 11 [(8, .int (nI k_9)), (7, .int (mf_free m_at)), (6, .int (mf_bitOf Wd x y)), (0, .ref (ad 0)), (3, .int (nI nights.toNatClampNeg)), (4, .int what)] → W p l e (zR 4 0 0) s m ([.ref (ad 0), .int x, .int y, .int nights, .int what] : List Value).toArray below meth c H locs 0 0 (MQ below (zQm G (True) (some (.int ((mf_signal m_tried m_triedMany m_at m_beside Wd R x y nights what).1))) (mW G ad ((mf_signal m_tried m_triedMany m_at m_beside Wd R x y nights what).2.1) m_top m_bottom m_taped m_size m_token m_from m_end m_value m_faultKind m_faultPlace m_faults m_seen m_depth m_counted m_lead m_round ((mf_signal m_tried m_triedMany m_at m_beside Wd R x y nights what).2.2.1) ((mf_signal m_tried m_triedMany m_at m_beside Wd R x y nights what).2.2.2.1) m_drawn m_ranSteps m_isTold m_marks m_at m_names m_sort m_trayMany m_trays m_tape m_text m_opened ((mf_signal m_tried m_triedMany m_at m_beside Wd R x y nights what).2.2.2.2) m_then m_ways m_further m_canBe m_loops m_ran m_told0) A) ([.ref (ad 0), .int x, .int y, .int nights, .int what] : List Value).toArray s 0 0 A) (F0 m 221 ls []) := by
                    intro t_12 ht_12 H locs hP hD hS ls hl
                    refine lv_iinc (v := nI (k_9 + 1)) (lv' := [(8, .int (nI (k_9 + 1))), (7, .int (mf_free m_at)), (6, .int (mf_bitOf Wd x y)), (0, .ref (ad 0)), (3, .int (nI nights.toNatClampNeg)), (4, .int what)]) hx hb dX7_signal_221 hl (k := 0) rfl (nI_add k_9 1) (by decide) rfl (fun ls hl => ?_)
                    refine lv_goto (tgt := 82) hx hb dX7_signal_224 (by decide) ?_
                    exact ih_9 (k_9 + 1) (t_12.2.1, t_12.2.2) hlt_9 (by omega) (zf_s hst_9 (by rw [mf_signal_B82, if_neg c_10, zlet_eq ht_11, zlet_eq ht_12])) H locs hP hD hS ls (lv_sub hl [0, 1, 2, 3, 4, 5] rfl)
                  have hlp_12 : ∀ (n : Nat) (s_12 : Nat × Int32 × Int32), Wd * R - s_12.1 < n → zw (mf_signal_B122 m_at Wd R x y nights t_7 k_9) (k_9 + 1, t_11.1, t_11.2) n s_12 = mf_signal_L122 m_at Wd R x y nights t_7 k_9 (k_9 + 1, t_11.1, t_11.2) → s_12.1 ≤ Wd * R → ∀ (H : Heap) (locs : List Loc), va_P G.1 zcl (mW G ad m_status m_top m_bottom m_taped m_size m_token m_from m_end m_value m_faultKind m_faultPlace m_faults m_seen m_depth m_counted m_lead m_round s_12.2.1 s_12.2.2 m_drawn m_ranSteps m_isTold m_marks m_at m_names m_sort m_trayMany m_trays m_tape m_text m_opened t_7 m_then m_ways m_further m_canBe m_loops m_ran m_told0) H → va_D A (mW G ad m_status m_top m_bottom m_taped m_size m_token m_from m_end m_value m_faultKind m_faultPlace m_faults m_seen m_depth m_counted m_lead m_round s_12.2.1 s_12.2.2 m_drawn m_ranSteps m_isTold m_marks m_at m_names m_sort m_trayMany m_trays m_tape m_text m_opened t_7 m_then m_ways m_further m_canBe m_loops m_ran m_told0) → va_S A s.heap H locs → ∀ ls : Array Slot, lv_has ls 11 [(9, .int (nI s_12.1)), (8, .int (nI k_9)), (7, .int (mf_free m_at)), (6, .int (mf_bitOf Wd x y)), (0, .ref (ad 0)), (3, .int (nI nights.toNatClampNeg)), (4, .int what)] → W p l e (zR 4 0 0) s m ([.ref (ad 0), .int x, .int y, .int nights, .int what] : List Value).toArray below meth c H locs 0 0 (MQ below (zQm G (True) (some (.int ((mf_signal m_tried m_triedMany m_at m_beside Wd R x y nights what).1))) (mW G ad ((mf_signal m_tried m_triedMany m_at m_beside Wd R x y nights what).2.1) m_top m_bottom m_taped m_size m_token m_from m_end m_value m_faultKind m_faultPlace m_faults m_seen m_depth m_counted m_lead m_round ((mf_signal m_tried m_triedMany m_at m_beside Wd R x y nights what).2.2.1) ((mf_signal m_tried m_triedMany m_at m_beside Wd R x y nights what).2.2.2.1) m_drawn m_ranSteps m_isTold m_marks m_at m_names m_sort m_trayMany m_trays m_tape m_text m_opened ((mf_signal m_tried m_triedMany m_at m_beside Wd R x y nights what).2.2.2.2) m_then m_ways m_further m_canBe m_loops m_ran m_told0) A) ([.ref (ad 0), .int x, .int y, .int nights, .int what] : List Value).toArray s 0 0 A) (F0 m 122 ls []) := by
                    intro n
                    induction n with
                    | zero => exact fun _ h => absurd h (Nat.not_lt_zero _)
                    | succ n ih_12 =>
                      intro s_12 hmu_12 hR_12 hi9 H locs hP hD hS ls hl
                      refine lv_iload hx hb dX7_signal_122 (lv_at hl 0 rfl) ?_
                      refine lv_aload_n hx hb dX7_signal_124 rfl (lv_at hl 4 rfl) ?_
                      refine zr_obV ⟨hx, hb, hml, hown, hts⟩ (mt_mf_places l G ad m_status m_top m_bottom m_taped m_size m_token m_from m_end m_value m_faultKind m_faultPlace m_faults m_seen m_depth m_counted m_lead m_round s_12.2.1 s_12.2.2 m_drawn m_ranSteps m_isTold m_marks m_at m_names m_sort m_trayMany m_trays m_tape m_text m_opened t_7 m_then m_ways m_further m_canBe m_loops m_ran m_told0 Wd R nr nc hG) (cwV 0 hts (lw_V q1815 q1817 qs97 q144 q1818) rfl rfl rfl hd_X7_places ⟨(Nat.le_of_ble_eq_true rfl), (Nat.le_of_ble_eq_true rfl)⟩) hP hK (zE_o hE hS) 0 7 rfl rfl rfl hl.1 rfl (Nat.le_of_ble_eq_true rfl) dX7_signal_125 ⟨Nat.le_refl _, Nat.le_refl _⟩ ?_
                      refine zr_ge s_12.1 (Wd * R) (by omega) (by omega) (tgt := 221) hx hb dX7_signal_128 (by decide) (fun c_13 => ?_) (fun c_13 => ?_)
                      · exact hx_12 (s_12.1, s_12.2.1, s_12.2.2) (hR_12.symm.trans (zw_r (by rw [mf_signal_B122, if_pos c_13]))) H locs hP hD hS ls (lv_sub hl [1, 2, 3, 4, 5, 6] rfl)
                      · refine lv_iload hx hb dX7_signal_131 (lv_at hl 2 rfl) ?_
                        refine lv_iload hx hb dX7_signal_133 (lv_at hl 0 rfl) ?_
                        refine lv_ishr hx hb dX7_signal_135 ?_
                        refine lv_iconst (v := 1) hx hb dX7_signal_136 (by decide) ?_
                        refine lv_iand hx hb dX7_signal_137 ?_
                        refine lv_if_ne (tgt := 144) hx hb dX7_signal_138 (by decide) (fun c_14 => ?_) (fun c_14 => ?_)
                        · refine lv_aload_n hx hb dX7_signal_144 rfl (lv_at hl 4 rfl) ?_
                          refine lv_iconst (v := 1) hx hb dX7_signal_145 (by decide) ?_
                          refine lv_iload hx hb dX7_signal_146 (lv_at hl 1 rfl) ?_
                          refine lv_ishl hx hb dX7_signal_148 ?_
                          refine lv_iconst (v := 1) hx hb dX7_signal_149 (by decide) ?_
                          refine lv_iload hx hb dX7_signal_150 (lv_at hl 0 rfl) ?_
                          refine lv_ishl hx hb dX7_signal_152 ?_
                          refine lv_ior hx hb dX7_signal_153 ?_
                          refine lv_iconst (v := 2) hx hb dX7_signal_154 (by decide) ?_
                          refine lv_iload hx hb dX7_signal_155 (lv_at hl 3 rfl) ?_
                          refine lv_iload_n hx hb dX7_signal_157 rfl (lv_at hl 5 rfl) ?_
                          refine zr_muV (F := mf_tries s_12.2.1 s_12.2.2 m_at t_7 Wd R (((1 : Int32) <<< ((nI k_9) &&& 31)) ||| ((1 : Int32) <<< ((nI s_12.1) &&& 31))) 2 (mf_bitOf Wd x y) nights.toNatClampNeg) (ff := fun t_15 => True) (rr := fun t_15 => none) (w1 := fun t_15 => (mW G ad m_status m_top m_bottom m_taped m_size m_token m_from m_end m_value m_faultKind m_faultPlace m_faults m_seen m_depth m_counted m_lead m_round t_15.1 t_15.2 m_drawn m_ranSteps m_isTold m_marks m_at m_names m_sort m_trayMany m_trays m_tape m_text m_opened t_7 m_then m_ways m_further m_canBe m_loops m_ran m_told0)) ⟨hx, hb, hml, hown, hts⟩ (mt_mf_tries l G ad m_status m_top m_bottom m_taped m_size m_token m_from m_end m_value m_faultKind m_faultPlace m_faults m_seen m_depth m_counted m_lead m_round s_12.2.1 s_12.2.2 m_drawn m_ranSteps m_isTold m_marks m_at m_names m_sort m_trayMany m_trays m_tape m_text m_opened t_7 m_then m_ways m_further m_canBe m_loops m_ran m_told0 Wd R nr nc (((1 : Int32) <<< ((nI k_9) &&& 31)) ||| ((1 : Int32) <<< ((nI s_12.1) &&& 31))) 2 (mf_bitOf Wd x y) nights.toNatClampNeg hG (by omega) H.size) (cwV 4 hts (lw_V q1997 q1999 qs117 q144 q2000) rfl rfl rfl hd_X7_tries ⟨(Nat.le_of_ble_eq_true rfl), (Nat.le_of_ble_eq_true rfl)⟩) hP hD hS hA hK hE 0 7 rfl rfl rfl hl.1 rfl (Nat.le_of_ble_eq_true rfl) dX7_signal_158 ⟨Nat.le_refl _, Nat.le_refl _⟩ (fun t_15 ht_15 hft_15 H locs hP hD hS _ => ?_)
                          refine W.eq (g2 := F0 m 161 ls []) rfl ?_
                          refine lv_iload hx hb dX7_signal_161 (lv_at hl 0 rfl) ?_
                          refine lv_iconst (v := 1) hx hb dX7_signal_163 (by decide) ?_
                          refine zr_iaddN s_12.1 1 hx hb dX7_signal_164 ?_
                          refine lv_istore (lv' := [(10, .int (nI (s_12.1 + 1))), (9, .int (nI s_12.1)), (8, .int (nI k_9)), (7, .int (mf_free m_at)), (6, .int (mf_bitOf Wd x y)), (0, .ref (ad 0)), (3, .int (nI nights.toNatClampNeg)), (4, .int what)]) hx hb dX7_signal_165 hl (by decide) rfl (fun ls hl => ?_)
                          have hx_16 : ∀ t_16 : Nat × Int32 × Int32, mf_signal_L167 m_at Wd R x y nights t_7 k_9 s_12 (s_12.1 + 1, t_15.1, t_15.2) = t_16 → ∀ (H : Heap) (locs : List Loc), va_P G.1 zcl (mW G ad m_status m_top m_bottom m_taped m_size m_token m_from m_end m_value m_faultKind m_faultPlace m_faults m_seen m_depth m_counted m_lead m_round t_16.2.1 t_16.2.2 m_drawn m_ranSteps m_isTold m_marks m_at m_names m_sort m_trayMany m_trays m_tape m_text m_opened t_7 m_then m_ways m_further m_canBe m_loops m_ran m_told0) H → va_D A (mW G ad m_status m_top m_bottom m_taped m_size m_token m_from m_end m_value m_faultKind m_faultPlace m_faults m_seen m_depth m_counted m_lead m_round t_16.2.1 t_16.2.2 m_drawn m_ranSteps m_isTold m_marks m_at m_names m_sort m_trayMany m_trays m_tape m_text m_opened t_7 m_then m_ways m_further m_canBe m_loops m_ran m_told0) → va_S A s.heap H locs → ∀ ls : Array Slot, lv_has ls 11 [(9, .int (nI s_12.1)), (8, .int (nI k_9)), (7, .int (mf_free m_at)), (6, .int (mf_bitOf Wd x y)), (0, .ref (ad 0)), (3, .int (nI nights.toNatClampNeg)), (4, .int what)] → W p l e (zR 4 0 0) s m ([.ref (ad 0), .int x, .int y, .int nights, .int what] : List Value).toArray below meth c H locs 0 0 (MQ below (zQm G (True) (some (.int ((mf_signal m_tried m_triedMany m_at m_beside Wd R x y nights what).1))) (mW G ad ((mf_signal m_tried m_triedMany m_at m_beside Wd R x y nights what).2.1) m_top m_bottom m_taped m_size m_token m_from m_end m_value m_faultKind m_faultPlace m_faults m_seen m_depth m_counted m_lead m_round ((mf_signal m_tried m_triedMany m_at m_beside Wd R x y nights what).2.2.1) ((mf_signal m_tried m_triedMany m_at m_beside Wd R x y nights what).2.2.2.1) m_drawn m_ranSteps m_isTold m_marks m_at m_names m_sort m_trayMany m_trays m_tape m_text m_opened ((mf_signal m_tried m_triedMany m_at m_beside Wd R x y nights what).2.2.2.2) m_then m_ways m_further m_canBe m_loops m_ran m_told0) A) ([.ref (ad 0), .int x, .int y, .int nights, .int what] : List Value).toArray s 0 0 A) (F0 m 215 ls []) := by
                            intro t_16 ht_16 H locs hP hD hS ls hl
                            refine lv_iinc (v := nI (s_12.1 + 1)) (lv' := [(9, .int (nI (s_12.1 + 1))), (8, .int (nI k_9)), (7, .int (mf_free m_at)), (6, .int (mf_bitOf Wd x y)), (0, .ref (ad 0)), (3, .int (nI nights.toNatClampNeg)), (4, .int what)]) hx hb dX7_signal_215 hl (k := 0) rfl (nI_add s_12.1 1) (by decide) rfl (fun ls hl => ?_)
                            refine lv_goto (tgt := 122) hx hb dX7_signal_218 (by decide) ?_
                            exact ih_12 (s_12.1 + 1, t_16.2.1, t_16.2.2) (by omega) ((zw_l (by rw [mf_signal_B122, if_neg c_13, if_neg c_14, zlet_eq ht_15, zlet_eq ht_16])).symm.trans hR_12) (by omega) H locs hP hD hS ls (lv_sub hl [0, 1, 2, 3, 4, 5, 6] rfl)
                          have hlp_16 : ∀ (n : Nat) (s_16 : Nat × Int32 × Int32), Wd * R - s_16.1 < n → zw (mf_signal_B167 m_at Wd R x y nights t_7 k_9 s_12) (s_12.1 + 1, t_15.1, t_15.2) n s_16 = mf_signal_L167 m_at Wd R x y nights t_7 k_9 s_12 (s_12.1 + 1, t_15.1, t_15.2) → s_16.1 ≤ Wd * R → ∀ (H : Heap) (locs : List Loc), va_P G.1 zcl (mW G ad m_status m_top m_bottom m_taped m_size m_token m_from m_end m_value m_faultKind m_faultPlace m_faults m_seen m_depth m_counted m_lead m_round s_16.2.1 s_16.2.2 m_drawn m_ranSteps m_isTold m_marks m_at m_names m_sort m_trayMany m_trays m_tape m_text m_opened t_7 m_then m_ways m_further m_canBe m_loops m_ran m_told0) H → va_D A (mW G ad m_status m_top m_bottom m_taped m_size m_token m_from m_end m_value m_faultKind m_faultPlace m_faults m_seen m_depth m_counted m_lead m_round s_16.2.1 s_16.2.2 m_drawn m_ranSteps m_isTold m_marks m_at m_names m_sort m_trayMany m_trays m_tape m_text m_opened t_7 m_then m_ways m_further m_canBe m_loops m_ran m_told0) → va_S A s.heap H locs → ∀ ls : Array Slot, lv_has ls 11 [(10, .int (nI s_16.1)), (9, .int (nI s_12.1)), (8, .int (nI k_9)), (7, .int (mf_free m_at)), (6, .int (mf_bitOf Wd x y)), (0, .ref (ad 0)), (3, .int (nI nights.toNatClampNeg)), (4, .int what)] → W p l e (zR 4 0 0) s m ([.ref (ad 0), .int x, .int y, .int nights, .int what] : List Value).toArray below meth c H locs 0 0 (MQ below (zQm G (True) (some (.int ((mf_signal m_tried m_triedMany m_at m_beside Wd R x y nights what).1))) (mW G ad ((mf_signal m_tried m_triedMany m_at m_beside Wd R x y nights what).2.1) m_top m_bottom m_taped m_size m_token m_from m_end m_value m_faultKind m_faultPlace m_faults m_seen m_depth m_counted m_lead m_round ((mf_signal m_tried m_triedMany m_at m_beside Wd R x y nights what).2.2.1) ((mf_signal m_tried m_triedMany m_at m_beside Wd R x y nights what).2.2.2.1) m_drawn m_ranSteps m_isTold m_marks m_at m_names m_sort m_trayMany m_trays m_tape m_text m_opened ((mf_signal m_tried m_triedMany m_at m_beside Wd R x y nights what).2.2.2.2) m_then m_ways m_further m_canBe m_loops m_ran m_told0) A) ([.ref (ad 0), .int x, .int y, .int nights, .int what] : List Value).toArray s 0 0 A) (F0 m 167 ls []) := by
                            intro n
                            induction n with
                            | zero => exact fun _ h => absurd h (Nat.not_lt_zero _)
                            | succ n ih_16 =>
                              intro s_16 hmu_16 hR_16 hi10 H locs hP hD hS ls hl
                              refine lv_iload hx hb dX7_signal_167 (lv_at hl 0 rfl) ?_
                              refine lv_aload_n hx hb dX7_signal_169 rfl (lv_at hl 5 rfl) ?_
                              refine zr_obV ⟨hx, hb, hml, hown, hts⟩ (mt_mf_places l G ad m_status m_top m_bottom m_taped m_size m_token m_from m_end m_value m_faultKind m_faultPlace m_faults m_seen m_depth m_counted m_lead m_round s_16.2.1 s_16.2.2 m_drawn m_ranSteps m_isTold m_marks m_at m_names m_sort m_trayMany m_trays m_tape m_text m_opened t_7 m_then m_ways m_further m_canBe m_loops m_ran m_told0 Wd R nr nc hG) (cwV 0 hts (lw_V q1815 q1817 qs97 q144 q1818) rfl rfl rfl hd_X7_places ⟨(Nat.le_of_ble_eq_true rfl), (Nat.le_of_ble_eq_true rfl)⟩) hP hK (zE_o hE hS) 0 7 rfl rfl rfl hl.1 rfl (Nat.le_of_ble_eq_true rfl) dX7_signal_170 ⟨Nat.le_refl _, Nat.le_refl _⟩ ?_
                              refine zr_ge s_16.1 (Wd * R) (by omega) (by omega) (tgt := 215) hx hb dX7_signal_173 (by decide) (fun c_17 => ?_) (fun c_17 => ?_)
                              · exact hx_16 (s_16.1, s_16.2.1, s_16.2.2) (hR_16.symm.trans (zw_r (by rw [mf_signal_B167, if_pos c_17]))) H locs hP hD hS ls (lv_sub hl [1, 2, 3, 4, 5, 6, 7] rfl)
                              · refine lv_iload hx hb dX7_signal_176 (lv_at hl 3 rfl) ?_
                                refine lv_iload hx hb dX7_signal_178 (lv_at hl 0 rfl) ?_
                                refine lv_ishr hx hb dX7_signal_180 ?_
                                refine lv_iconst (v := 1) hx hb dX7_signal_181 (by decide) ?_
                                refine lv_iand hx hb dX7_signal_182 ?_
                                refine lv_iconst (v := 1) hx hb dX7_signal_183 (by decide) ?_
                                refine lv_icmp_ne (tgt := 209) hx hb dX7_signal_184 (by decide) (fun c_18 => ?_) (fun c_18 => ?_)
                                · refine lv_iinc (v := nI (s_16.1 + 1)) (lv' := [(10, .int (nI (s_16.1 + 1))), (9, .int (nI s_12.1)), (8, .int (nI k_9)), (7, .int (mf_free m_at)), (6, .int (mf_bitOf Wd x y)), (0, .ref (ad 0)), (3, .int (nI nights.toNatClampNeg)), (4, .int what)]) hx hb dX7_signal_209 hl (k := 0) rfl (nI_add s_16.1 1) (by decide) rfl (fun ls hl => ?_)
                                  refine lv_goto (tgt := 167) hx hb dX7_signal_212 (by decide) ?_
                                  exact ih_16 (s_16.1 + 1, s_16.2.1, s_16.2.2) (by omega) ((zw_l (by rw [mf_signal_B167, if_neg c_17, if_neg c_18])).symm.trans hR_16) (by omega) H locs hP hD hS ls (lv_sub hl [0, 1, 2, 3, 4, 5, 6, 7] rfl)
                                · refine lv_aload_n hx hb dX7_signal_187 rfl (lv_at hl 5 rfl) ?_
                                  refine lv_iconst (v := 1) hx hb dX7_signal_188 (by decide) ?_
                                  refine lv_iload hx hb dX7_signal_189 (lv_at hl 2 rfl) ?_
                                  refine lv_ishl hx hb dX7_signal_191 ?_
                                  refine lv_iconst (v := 1) hx hb dX7_signal_192 (by decide) ?_
                                  refine lv_iload hx hb dX7_signal_193 (lv_at hl 1 rfl) ?_
                                  refine lv_ishl hx hb dX7_signal_195 ?_
                                  refine lv_ior hx hb dX7_signal_196 ?_
                                  refine lv_iconst (v := 1) hx hb dX7_signal_197 (by decide) ?_
                                  refine lv_iload hx hb dX7_signal_198 (lv_at hl 0 rfl) ?_
                                  refine lv_ishl hx hb dX7_signal_200 ?_
                                  refine lv_ior hx hb dX7_signal_201 ?_
                                  refine lv_iconst (v := 3) hx hb dX7_signal_202 (by decide) ?_
                                  refine lv_iload hx hb dX7_signal_203 (lv_at hl 4 rfl) ?_
                                  refine lv_iload_n hx hb dX7_signal_205 rfl (lv_at hl 6 rfl) ?_
                                  refine zr_muV (F := mf_tries s_16.2.1 s_16.2.2 m_at t_7 Wd R ((((1 : Int32) <<< ((nI k_9) &&& 31)) ||| ((1 : Int32) <<< ((nI s_12.1) &&& 31))) ||| ((1 : Int32) <<< ((nI s_16.1) &&& 31))) 3 (mf_bitOf Wd x y) nights.toNatClampNeg) (ff := fun t_19 => True) (rr := fun t_19 => none) (w1 := fun t_19 => (mW G ad m_status m_top m_bottom m_taped m_size m_token m_from m_end m_value m_faultKind m_faultPlace m_faults m_seen m_depth m_counted m_lead m_round t_19.1 t_19.2 m_drawn m_ranSteps m_isTold m_marks m_at m_names m_sort m_trayMany m_trays m_tape m_text m_opened t_7 m_then m_ways m_further m_canBe m_loops m_ran m_told0)) ⟨hx, hb, hml, hown, hts⟩ (mt_mf_tries l G ad m_status m_top m_bottom m_taped m_size m_token m_from m_end m_value m_faultKind m_faultPlace m_faults m_seen m_depth m_counted m_lead m_round s_16.2.1 s_16.2.2 m_drawn m_ranSteps m_isTold m_marks m_at m_names m_sort m_trayMany m_trays m_tape m_text m_opened t_7 m_then m_ways m_further m_canBe m_loops m_ran m_told0 Wd R nr nc ((((1 : Int32) <<< ((nI k_9) &&& 31)) ||| ((1 : Int32) <<< ((nI s_12.1) &&& 31))) ||| ((1 : Int32) <<< ((nI s_16.1) &&& 31))) 3 (mf_bitOf Wd x y) nights.toNatClampNeg hG (by omega) H.size) (cwV 4 hts (lw_V q1997 q1999 qs117 q144 q2000) rfl rfl rfl hd_X7_tries ⟨(Nat.le_of_ble_eq_true rfl), (Nat.le_of_ble_eq_true rfl)⟩) hP hD hS hA hK hE 0 7 rfl rfl rfl hl.1 rfl (Nat.le_of_ble_eq_true rfl) dX7_signal_206 ⟨Nat.le_refl _, Nat.le_refl _⟩ (fun t_19 ht_19 hft_19 H locs hP hD hS _ => ?_)
                                  refine W.eq (g2 := F0 m 209 ls []) rfl ?_
                                  refine lv_iinc (v := nI (s_16.1 + 1)) (lv' := [(10, .int (nI (s_16.1 + 1))), (9, .int (nI s_12.1)), (8, .int (nI k_9)), (7, .int (mf_free m_at)), (6, .int (mf_bitOf Wd x y)), (0, .ref (ad 0)), (3, .int (nI nights.toNatClampNeg)), (4, .int what)]) hx hb dX7_signal_209 hl (k := 0) rfl (nI_add s_16.1 1) (by decide) rfl (fun ls hl => ?_)
                                  refine lv_goto (tgt := 167) hx hb dX7_signal_212 (by decide) ?_
                                  exact ih_16 (s_16.1 + 1, t_19.1, t_19.2) (by omega) ((zw_l (by rw [mf_signal_B167, if_neg c_17, if_pos c_18, zlet_eq ht_19])).symm.trans hR_16) (by omega) H locs hP hD hS ls (lv_sub hl [0, 1, 2, 3, 4, 5, 6, 7] rfl)
                          exact hlp_16 _ (s_12.1 + 1, t_15.1, t_15.2) (Nat.lt_succ_self _) (by rw [mf_signal_L167]) (by omega) H locs hP hD hS ls (lv_sub hl [0, 1, 2, 3, 4, 5, 6, 7] rfl)
                        · refine lv_goto (tgt := 215) hx hb dX7_signal_141 (by decide) ?_
                          refine lv_iinc (v := nI (s_12.1 + 1)) (lv' := [(9, .int (nI (s_12.1 + 1))), (8, .int (nI k_9)), (7, .int (mf_free m_at)), (6, .int (mf_bitOf Wd x y)), (0, .ref (ad 0)), (3, .int (nI nights.toNatClampNeg)), (4, .int what)]) hx hb dX7_signal_215 hl (k := 0) rfl (nI_add s_12.1 1) (by decide) rfl (fun ls hl => ?_)
                          refine lv_goto (tgt := 122) hx hb dX7_signal_218 (by decide) ?_
                          exact ih_12 (s_12.1 + 1, s_12.2.1, s_12.2.2) (by omega) ((zw_l (by rw [mf_signal_B122, if_neg c_13, if_pos c_14])).symm.trans hR_12) (by omega) H locs hP hD hS ls (lv_sub hl [0, 1, 2, 3, 4, 5, 6] rfl)
                  exact hlp_12 _ (k_9 + 1, t_11.1, t_11.2) (Nat.lt_succ_self _) (by rw [mf_signal_L122]) (by omega) H locs hP hD hS ls (lv_sub hl [0, 1, 2, 3, 4, 5, 6] rfl)
                · refine lv_goto (tgt := 221) hx hb dX7_signal_101 (by decide) ?_
                  refine lv_iinc (v := nI (k_9 + 1)) (lv' := [(8, .int (nI (k_9 + 1))), (7, .int (mf_free m_at)), (6, .int (mf_bitOf Wd x y)), (0, .ref (ad 0)), (3, .int (nI nights.toNatClampNeg)), (4, .int what)]) hx hb dX7_signal_221 hl (k := 0) rfl (nI_add k_9 1) (by decide) rfl (fun ls hl => ?_)
                  refine lv_goto (tgt := 82) hx hb dX7_signal_224 (by decide) ?_
                  exact ih_9 (k_9 + 1) (s_9.1, s_9.2) hlt_9 (by omega) (zf_s hst_9 (by rw [mf_signal_B82, if_pos c_10])) H locs hP hD hS ls (lv_sub hl [0, 1, 2, 3, 4, 5] rfl)
          exact hlp_9 ((Wd * R) + 1) 0 (t_8.1, t_8.2) (Nat.zero_le _) (by omega) rfl H locs hP hD hS ls (lv_sub hl [0, 1, 2, 4, 7, 8] rfl)
        · refine lv_aload_n hx hb dX7_signal_40 rfl (lv_at hl 1 rfl) ?_
          refine lv_iload hx hb dX7_signal_41 (lv_at hl 0 rfl) ?_
          refine zr_muV (F := ()) (ff := fun _ => True) (rr := fun _ => some (.int (-1))) (w1 := fun _ => (mW G ad (mf_wrongHouse m_at Wd R x y) m_top m_bottom m_taped m_size m_token m_from m_end m_value m_faultKind m_faultPlace m_faults m_seen m_depth m_counted m_lead m_round m_tried m_triedMany m_drawn m_ranSteps m_isTold m_marks m_at m_names m_sort m_trayMany m_trays m_tape m_text m_opened m_beside m_then m_ways m_further m_canBe m_loops m_ran m_told0)) ⟨hx, hb, hml, hown, hts⟩ (mt_mf_refuse l G ad m_status m_top m_bottom m_taped m_size m_token m_from m_end m_value m_faultKind m_faultPlace m_faults m_seen m_depth m_counted m_lead m_round m_tried m_triedMany m_drawn m_ranSteps m_isTold m_marks m_at m_names m_sort m_trayMany m_trays m_tape m_text m_opened m_beside m_then m_ways m_further m_canBe m_loops m_ran m_told0 (mf_wrongHouse m_at Wd R x y) H.size) (cwV 1 hts (lw_V q1666 q1668 qs66 q144 q1669) rfl rfl rfl hd_X7_refuse ⟨(Nat.le_of_ble_eq_true rfl), (Nat.le_of_ble_eq_true rfl)⟩) hP hD hS hA hK hE 0 7 rfl rfl rfl hl.1 rfl (Nat.le_of_ble_eq_true rfl) dX7_signal_43 ⟨Nat.le_refl _, Nat.le_refl _⟩ (fun _ _ _ H locs hP hD hS _ => ?_)
          refine W.eq (g2 := F0 m 46 ls [.int (-1)]) rfl ?_
          have e_ : mf_signal m_tried m_triedMany m_at m_beside Wd R x y nights what = ((-1), mf_wrongHouse m_at Wd R x y, m_tried, m_triedMany, m_beside) := by rw [mf_signal, if_pos c_1, if_neg c_3, if_pos c_5, if_neg c_6]
          exact zr_mi hx hb hr hlocks hP hD hS dX7_signal_46 (by rw [e_])  (by rw [e_]) trivial
      · refine lv_iconst (v := 1) hx hb dX7_signal_23 (by decide) ?_
        refine lv_goto (tgt := 33) hx hb dX7_signal_24 (by decide) ?_
        refine lv_istore (lv' := [(5, .int 1), (0, .ref (ad 0)), (1, .int x), (2, .int y), (3, .int nights), (4, .int what)]) hx hb dX7_signal_33 hl (by decide) rfl (fun ls hl => ?_)
        refine lv_iload hx hb dX7_signal_35 (lv_at hl 0 rfl) ?_
        refine lv_if_le (tgt := 47) hx hb dX7_signal_37 (by decide) (fun z => absurd z (by decide)) (fun _ => ?_)
        refine lv_aload_n hx hb dX7_signal_40 rfl (lv_at hl 1 rfl) ?_
        refine lv_iload hx hb dX7_signal_41 (lv_at hl 0 rfl) ?_
        refine zr_muV (F := ()) (ff := fun _ => True) (rr := fun _ => some (.int (-1))) (w1 := fun _ => (mW G ad 1 m_top m_bottom m_taped m_size m_token m_from m_end m_value m_faultKind m_faultPlace m_faults m_seen m_depth m_counted m_lead m_round m_tried m_triedMany m_drawn m_ranSteps m_isTold m_marks m_at m_names m_sort m_trayMany m_trays m_tape m_text m_opened m_beside m_then m_ways m_further m_canBe m_loops m_ran m_told0)) ⟨hx, hb, hml, hown, hts⟩ (mt_mf_refuse l G ad m_status m_top m_bottom m_taped m_size m_token m_from m_end m_value m_faultKind m_faultPlace m_faults m_seen m_depth m_counted m_lead m_round m_tried m_triedMany m_drawn m_ranSteps m_isTold m_marks m_at m_names m_sort m_trayMany m_trays m_tape m_text m_opened m_beside m_then m_ways m_further m_canBe m_loops m_ran m_told0 1 H.size) (cwV 1 hts (lw_V q1666 q1668 qs66 q144 q1669) rfl rfl rfl hd_X7_refuse ⟨(Nat.le_of_ble_eq_true rfl), (Nat.le_of_ble_eq_true rfl)⟩) hP hD hS hA hK hE 0 7 rfl rfl rfl hl.1 rfl (Nat.le_of_ble_eq_true rfl) dX7_signal_43 ⟨Nat.le_refl _, Nat.le_refl _⟩ (fun _ _ _ H locs hP hD hS _ => ?_)
        refine W.eq (g2 := F0 m 46 ls [.int (-1)]) rfl ?_
        have e_ : mf_signal m_tried m_triedMany m_at m_beside Wd R x y nights what = ((-1), 1, m_tried, m_triedMany, m_beside) := by rw [mf_signal, if_pos c_1, if_neg c_3, if_neg c_5]
        exact zr_mi hx hb hr hlocks hP hD hS dX7_signal_46 (by rw [e_])  (by rw [e_]) trivial
def mf_spoilsBy (m_at : Nat → Int32) (m_beside : Nat → Int32) (Wd : Nat) (R : Nat) (bit : Int32) (nights : Nat) : Nat × (Nat → Int32) :=
  zlet (mf_after m_at m_beside Wd R (m_at 3) nights) (fun t_1 =>
  zlet (mf_after m_at t_1.2 Wd R ((m_at 3) ^^^ bit) nights) (fun t_2 =>
  (zpc (t_1.1 ^^^ t_2.1), t_2.2)))
theorem hd_X7_spoilsBy : yX7_spoilsBy.cls = RX7 ∧ yX7_spoilsBy.cls ≠ "java/lang/invoke/MethodHandle" ∧ yX7_spoilsBy.cls ≠ "java/lang/invoke/VarHandle" ∧ (parseMethodDescriptor yX7_spoilsBy.desc).map (fun d => d.parameters.length) = some 2 := by decide +kernel
set_option maxHeartbeats 4000000 in
set_option maxRecDepth 100000 in
theorem mt_mf_spoilsBy (l : Launch) (G : zG) (ad : Nat → Nat) (m_status : Int32) (m_top : Int64) (m_bottom : Int64) (m_taped : Int32) (m_size : Int32) (m_token : Int32) (m_from : Int32) (m_end : Int32) (m_value : Int32) (m_faultKind : Int32) (m_faultPlace : Int32) (m_faults : Int32) (m_seen : Int32) (m_depth : Int32) (m_counted : Int32) (m_lead : Int32) (m_round : Int32) (m_tried : Int32) (m_triedMany : Int32) (m_drawn : Int32) (m_ranSteps : Int32) (m_isTold : Bool) (m_marks : Int32) (m_at : Nat → Int32) (m_names : Nat → Int64) (m_sort : Nat → Int32) (m_trayMany : Nat → Int32) (m_trays : Nat → Int64) (m_tape : Nat → Int32) (m_text : Nat → Int32) (m_opened : Nat → Int32) (m_beside : Nat → Int32) (m_then : Nat → Int32) (m_ways : Nat → Int64) (m_further : Nat → Int64) (m_canBe : Nat → Int32) (m_loops : Nat → Int32) (m_ran : Nat → Int32) (m_told0 : Nat → Int32) (Wd : Nat) (R : Nat) (nr : Nat) (nc : Nat) (bit : Int32) (nights : Nat) (hG : mOK m_at Wd R nr nc) (hnn : nights < 2 ^ 31) (sz : Nat) : Met l yX7_spoilsBy (ws_ yX7_spoilsBy cX7_spoilsBy 3 (some .int)) (zR 5 0 0) (zPm G sz [.ref (ad 0), .int bit, .int (nI nights)] (mW G ad m_status m_top m_bottom m_taped m_size m_token m_from m_end m_value m_faultKind m_faultPlace m_faults m_seen m_depth m_counted m_lead m_round m_tried m_triedMany m_drawn m_ranSteps m_isTold m_marks m_at m_names m_sort m_trayMany m_trays m_tape m_text m_opened m_beside m_then m_ways m_further m_canBe m_loops m_ran m_told0)) (zQm G (True) (some (.int (nI ((mf_spoilsBy m_at m_beside Wd R bit nights).1)))) (mW G ad m_status m_top m_bottom m_taped m_size m_token m_from m_end m_value m_faultKind m_faultPlace m_faults m_seen m_depth m_counted m_lead m_round m_tried m_triedMany m_drawn m_ranSteps m_isTold m_marks m_at m_names m_sort m_trayMany m_trays m_tape m_text m_opened ((mf_spoilsBy m_at m_beside Wd R bit nights).2) m_then m_ways m_further m_canBe m_loops m_ran m_told0) (va_A (mW G ad m_status m_top m_bottom m_taped m_size m_token m_from m_end m_value m_faultKind m_faultPlace m_faults m_seen m_depth m_counted m_lead m_round m_tried m_triedMany m_drawn m_ranSteps m_isTold m_marks m_at m_names m_sort m_trayMany m_trays m_tape m_text m_opened m_beside m_then m_ways m_further m_canBe m_loops m_ran m_told0) sz)) 0 0 (va_A (mW G ad m_status m_top m_bottom m_taped m_size m_token m_from m_end m_value m_faultKind m_faultPlace m_faults m_seen m_depth m_counted m_lead m_round m_tried m_triedMany m_drawn m_ranSteps m_isTold m_marks m_at m_names m_sort m_trayMany m_trays m_tape m_text m_opened m_beside m_then m_ways m_further m_canBe m_loops m_ran m_told0) sz) := by
  refine zr_entM (by decide) (Nat.le_of_ble_eq_true rfl) ?_
  intro p e s m below meth c ⟨hx, hb, hr, hml, hown, hts, hlocks, hnm⟩ ls hl hP hK A hE hA hD hS
  have hown : s.vm.findClass RX7 = some m.cls := hown
  have hl : lv_has ls 3 [(0, .ref (ad 0)), (1, .int bit), (2, .int (nI nights))] := hl
  obtain ⟨H, hH⟩ : ∃ H, H = s.heap := ⟨_, rfl⟩
  obtain ⟨locs, hlo⟩ : ∃ L : List Loc, L = [] := ⟨_, rfl⟩
  rw [← hH] at hP
  have hS : va_S A s.heap H locs := by rw [hH, hlo]; exact va_S.rf
  have hgo : W p l e (zR 5 0 0) s m ([.ref (ad 0), .int bit, .int (nI nights)] : List Value).toArray below meth c H locs 0 0 (MQ below (zQm G (True) (some (.int (nI ((mf_spoilsBy m_at m_beside Wd R bit nights).1)))) (mW G ad m_status m_top m_bottom m_taped m_size m_token m_from m_end m_value m_faultKind m_faultPlace m_faults m_seen m_depth m_counted m_lead m_round m_tried m_triedMany m_drawn m_ranSteps m_isTold m_marks m_at m_names m_sort m_trayMany m_trays m_tape m_text m_opened ((mf_spoilsBy m_at m_beside Wd R bit nights).2) m_then m_ways m_further m_canBe m_loops m_ran m_told0) A) ([.ref (ad 0), .int bit, .int (nI nights)] : List Value).toArray s 0 0 A) (F0 m 0 ls []) := ?_
  · rw [hH, hlo] at hgo; exact hgo
  clear hH hlo
  have hWR := mOK_WR hG
  have hW0 := mOK_W0 hG
  have hW5 := mOK_W5 hG
  have hR0 := mOK_R0 hG
  have hR6 := mOK_R6 hG
  have hn4 := mOK_n4 hG
  have hc6 := mOK_c6 hG
  refine lv_aload_n hx hb dX7_spoilsBy_0 rfl (lv_at hl 0 rfl) ?_
  refine lv_aload_n hx hb dX7_spoilsBy_1 rfl (lv_at hl 0 rfl) ?_
  refine va_get (D := G.1) (ci := 7) (v := .ref (ad 1)) (C := RX7) (T := TX7) (N := 39) hx hb hts in_X7 hown hK.1 hP 0 rfl rfl 0 (Nat.le_of_ble_eq_true rfl) (hts _ q1467) (fun _ h => h) rfl dX7_spoilsBy_2 ?_
  refine lv_iconst (v := 3) hx hb dX7_spoilsBy_5 (by decide) ?_
  refine zr_iald 3 (v := m_at 3) hx hb hK hP 1 rfl rfl (Nat.le_of_ble_eq_true rfl) rfl (by decide) rfl dX7_spoilsBy_6 ?_
  refine lv_iload_n hx hb dX7_spoilsBy_7 rfl (lv_at hl 2 rfl) ?_
  refine zr_muV (F := mf_after m_at m_beside Wd R (m_at 3) nights) (ff := fun t_1 => True) (rr := fun t_1 => some (.int t_1.1)) (w1 := fun t_1 => (mW G ad m_status m_top m_bottom m_taped m_size m_token m_from m_end m_value m_faultKind m_faultPlace m_faults m_seen m_depth m_counted m_lead m_round m_tried m_triedMany m_drawn m_ranSteps m_isTold m_marks m_at m_names m_sort m_trayMany m_trays m_tape m_text m_opened t_1.2 m_then m_ways m_further m_canBe m_loops m_ran m_told0)) ⟨hx, hb, hml, hown, hts⟩ (mt_mf_after l G ad m_status m_top m_bottom m_taped m_size m_token m_from m_end m_value m_faultKind m_faultPlace m_faults m_seen m_depth m_counted m_lead m_round m_tried m_triedMany m_drawn m_ranSteps m_isTold m_marks m_at m_names m_sort m_trayMany m_trays m_tape m_text m_opened m_beside m_then m_ways m_further m_canBe m_loops m_ran m_told0 Wd R nr nc (m_at 3) nights hG hnn H.size) (cwV 2 hts (lw_V q1901 q1903 qs107 q144 q1904) rfl rfl rfl hd_X7_after ⟨(Nat.le_of_ble_eq_true rfl), (Nat.le_of_ble_eq_true rfl)⟩) hP hD hS hA hK hE 0 7 rfl rfl rfl hl.1 rfl (Nat.le_of_ble_eq_true rfl) dX7_spoilsBy_8 ⟨Nat.le_refl _, Nat.le_refl _⟩ (fun t_1 ht_1 hft_1 H locs hP hD hS _ => ?_)
  refine W.eq (g2 := F0 m 11 ls [.int t_1.1]) rfl ?_
  refine lv_aload_n hx hb dX7_spoilsBy_11 rfl (lv_at hl 0 rfl) ?_
  refine lv_aload_n hx hb dX7_spoilsBy_12 rfl (lv_at hl 0 rfl) ?_
  refine va_get (D := G.1) (ci := 7) (v := .ref (ad 1)) (C := RX7) (T := TX7) (N := 39) hx hb hts in_X7 hown hK.1 hP 0 rfl rfl 0 (Nat.le_of_ble_eq_true rfl) (hts _ q1467) (fun _ h => h) rfl dX7_spoilsBy_13 ?_
  refine lv_iconst (v := 3) hx hb dX7_spoilsBy_16 (by decide) ?_
  refine zr_iald 3 (v := m_at 3) hx hb hK hP 1 rfl rfl (Nat.le_of_ble_eq_true rfl) rfl (by decide) rfl dX7_spoilsBy_17 ?_
  refine lv_iload_n hx hb dX7_spoilsBy_18 rfl (lv_at hl 1 rfl) ?_
  refine lv_ixor hx hb dX7_spoilsBy_19 ?_
  refine lv_iload_n hx hb dX7_spoilsBy_20 rfl (lv_at hl 2 rfl) ?_
  refine zr_muV (F := mf_after m_at t_1.2 Wd R ((m_at 3) ^^^ bit) nights) (ff := fun t_2 => True) (rr := fun t_2 => some (.int t_2.1)) (w1 := fun t_2 => (mW G ad m_status m_top m_bottom m_taped m_size m_token m_from m_end m_value m_faultKind m_faultPlace m_faults m_seen m_depth m_counted m_lead m_round m_tried m_triedMany m_drawn m_ranSteps m_isTold m_marks m_at m_names m_sort m_trayMany m_trays m_tape m_text m_opened t_2.2 m_then m_ways m_further m_canBe m_loops m_ran m_told0)) ⟨hx, hb, hml, hown, hts⟩ (mt_mf_after l G ad m_status m_top m_bottom m_taped m_size m_token m_from m_end m_value m_faultKind m_faultPlace m_faults m_seen m_depth m_counted m_lead m_round m_tried m_triedMany m_drawn m_ranSteps m_isTold m_marks m_at m_names m_sort m_trayMany m_trays m_tape m_text m_opened t_1.2 m_then m_ways m_further m_canBe m_loops m_ran m_told0 Wd R nr nc ((m_at 3) ^^^ bit) nights hG hnn H.size) (cwV 2 hts (lw_V q1901 q1903 qs107 q144 q1904) rfl rfl rfl hd_X7_after ⟨(Nat.le_of_ble_eq_true rfl), (Nat.le_of_ble_eq_true rfl)⟩) hP hD hS hA hK hE 0 7 rfl rfl rfl hl.1 rfl (Nat.le_of_ble_eq_true rfl) dX7_spoilsBy_21 ⟨Nat.le_refl _, Nat.le_refl _⟩ (fun t_2 ht_2 hft_2 H locs hP hD hS _ => ?_)
  refine W.eq (g2 := F0 m 24 ls [.int t_2.1, .int t_1.1]) rfl ?_
  refine lv_ixor hx hb dX7_spoilsBy_24 ?_
  refine zr_puS ⟨hx, hb, hml, hown, hts⟩ (mt_bitsN l (t_1.1 ^^^ t_2.1)) (va_cwS 1 hts (lw_S q1744 q1745 q144 q1746) rfl rfl rfl hd_X7_bits.2 ⟨(Nat.le_of_ble_eq_true rfl), (Nat.le_of_ble_eq_true rfl)⟩) rfl hl.1 rfl (Nat.le_of_ble_eq_true rfl) dX7_spoilsBy_25 ⟨Nat.le_refl _, Nat.le_refl _⟩ ?_
  have e_ : mf_spoilsBy m_at m_beside Wd R bit nights = (zpc (t_1.1 ^^^ t_2.1), t_2.2) := by rw [mf_spoilsBy, zlet_eq ht_1, zlet_eq ht_2]
  exact zr_mi hx hb hr hlocks hP hD hS dX7_spoilsBy_28 (by rw [e_])  (by rw [e_]) trivial
def mf_spoils (m_at : Nat → Int32) (m_beside : Nat → Int32) (Wd : Nat) (R : Nat) (x : Int32) (y : Int32) (nights : Int32) : Int32 × Int32 × (Nat → Int32) :=
  (if (mf_isFrom nights.toInt64 0 30) = true then
    (if (mf_wrongLamp m_at Wd R x y) ≤ 0 then
      zlet (mf_spoilsBy m_at m_beside Wd R (mf_bitOf Wd x y) nights.toNatClampNeg) (fun t_3 =>
      (nI t_3.1, 0, t_3.2))
    else
      ((-1), mf_wrongLamp m_at Wd R x y, m_beside))
  else
    ((-1), 1, m_beside))
theorem hd_X7_spoils : yX7_spoils.cls = RX7 ∧ yX7_spoils.cls ≠ "java/lang/invoke/MethodHandle" ∧ yX7_spoils.cls ≠ "java/lang/invoke/VarHandle" ∧ (parseMethodDescriptor yX7_spoils.desc).map (fun d => d.parameters.length) = some 3 := by decide +kernel
set_option maxHeartbeats 4000000 in
set_option maxRecDepth 100000 in
theorem mt_mf_spoils (l : Launch) (G : zG) (ad : Nat → Nat) (m_status : Int32) (m_top : Int64) (m_bottom : Int64) (m_taped : Int32) (m_size : Int32) (m_token : Int32) (m_from : Int32) (m_end : Int32) (m_value : Int32) (m_faultKind : Int32) (m_faultPlace : Int32) (m_faults : Int32) (m_seen : Int32) (m_depth : Int32) (m_counted : Int32) (m_lead : Int32) (m_round : Int32) (m_tried : Int32) (m_triedMany : Int32) (m_drawn : Int32) (m_ranSteps : Int32) (m_isTold : Bool) (m_marks : Int32) (m_at : Nat → Int32) (m_names : Nat → Int64) (m_sort : Nat → Int32) (m_trayMany : Nat → Int32) (m_trays : Nat → Int64) (m_tape : Nat → Int32) (m_text : Nat → Int32) (m_opened : Nat → Int32) (m_beside : Nat → Int32) (m_then : Nat → Int32) (m_ways : Nat → Int64) (m_further : Nat → Int64) (m_canBe : Nat → Int32) (m_loops : Nat → Int32) (m_ran : Nat → Int32) (m_told0 : Nat → Int32) (Wd : Nat) (R : Nat) (nr : Nat) (nc : Nat) (x : Int32) (y : Int32) (nights : Int32) (hG : mOK m_at Wd R nr nc) (sz : Nat) : Met l yX7_spoils (ws_ yX7_spoils cX7_spoils 5 (some .int)) (zR 6 0 0) (zPm G sz [.ref (ad 0), .int x, .int y, .int nights] (mW G ad m_status m_top m_bottom m_taped m_size m_token m_from m_end m_value m_faultKind m_faultPlace m_faults m_seen m_depth m_counted m_lead m_round m_tried m_triedMany m_drawn m_ranSteps m_isTold m_marks m_at m_names m_sort m_trayMany m_trays m_tape m_text m_opened m_beside m_then m_ways m_further m_canBe m_loops m_ran m_told0)) (zQm G (True) (some (.int ((mf_spoils m_at m_beside Wd R x y nights).1))) (mW G ad ((mf_spoils m_at m_beside Wd R x y nights).2.1) m_top m_bottom m_taped m_size m_token m_from m_end m_value m_faultKind m_faultPlace m_faults m_seen m_depth m_counted m_lead m_round m_tried m_triedMany m_drawn m_ranSteps m_isTold m_marks m_at m_names m_sort m_trayMany m_trays m_tape m_text m_opened ((mf_spoils m_at m_beside Wd R x y nights).2.2) m_then m_ways m_further m_canBe m_loops m_ran m_told0) (va_A (mW G ad m_status m_top m_bottom m_taped m_size m_token m_from m_end m_value m_faultKind m_faultPlace m_faults m_seen m_depth m_counted m_lead m_round m_tried m_triedMany m_drawn m_ranSteps m_isTold m_marks m_at m_names m_sort m_trayMany m_trays m_tape m_text m_opened m_beside m_then m_ways m_further m_canBe m_loops m_ran m_told0) sz)) 0 0 (va_A (mW G ad m_status m_top m_bottom m_taped m_size m_token m_from m_end m_value m_faultKind m_faultPlace m_faults m_seen m_depth m_counted m_lead m_round m_tried m_triedMany m_drawn m_ranSteps m_isTold m_marks m_at m_names m_sort m_trayMany m_trays m_tape m_text m_opened m_beside m_then m_ways m_further m_canBe m_loops m_ran m_told0) sz) := by
  refine zr_entM (by decide) (Nat.le_of_ble_eq_true rfl) ?_
  intro p e s m below meth c ⟨hx, hb, hr, hml, hown, hts, hlocks, hnm⟩ ls hl hP hK A hE hA hD hS
  have hown : s.vm.findClass RX7 = some m.cls := hown
  have hl : lv_has ls 5 [(0, .ref (ad 0)), (1, .int x), (2, .int y), (3, .int nights)] := hl
  obtain ⟨H, hH⟩ : ∃ H, H = s.heap := ⟨_, rfl⟩
  obtain ⟨locs, hlo⟩ : ∃ L : List Loc, L = [] := ⟨_, rfl⟩
  rw [← hH] at hP
  have hS : va_S A s.heap H locs := by rw [hH, hlo]; exact va_S.rf
  have hgo : W p l e (zR 6 0 0) s m ([.ref (ad 0), .int x, .int y, .int nights] : List Value).toArray below meth c H locs 0 0 (MQ below (zQm G (True) (some (.int ((mf_spoils m_at m_beside Wd R x y nights).1))) (mW G ad ((mf_spoils m_at m_beside Wd R x y nights).2.1) m_top m_bottom m_taped m_size m_token m_from m_end m_value m_faultKind m_faultPlace m_faults m_seen m_depth m_counted m_lead m_round m_tried m_triedMany m_drawn m_ranSteps m_isTold m_marks m_at m_names m_sort m_trayMany m_trays m_tape m_text m_opened ((mf_spoils m_at m_beside Wd R x y nights).2.2) m_then m_ways m_further m_canBe m_loops m_ran m_told0) A) ([.ref (ad 0), .int x, .int y, .int nights] : List Value).toArray s 0 0 A) (F0 m 0 ls []) := ?_
  · rw [hH, hlo] at hgo; exact hgo
  clear hH hlo
  have hWR := mOK_WR hG
  have hW0 := mOK_W0 hG
  have hW5 := mOK_W5 hG
  have hR0 := mOK_R0 hG
  have hR6 := mOK_R6 hG
  have hn4 := mOK_n4 hG
  have hc6 := mOK_c6 hG
  refine lv_iload_n hx hb dX7_spoils_0 rfl (lv_at hl 3 rfl) ?_
  refine lv_i2l hx hb dX7_spoils_1 rfl ?_
  refine lv_lconst (v := 0) hx hb dX7_spoils_2 rfl ?_
  refine lv_ldc2 (v := 30) hx hb hown (hts _ q1996) dX7_spoils_3 ?_
  refine zr_puS ⟨hx, hb, hml, hown, hts⟩ (mt_mf_isFrom l nights.toInt64 0 30) (va_cwS 3 hts (lw_S q1848 q1849 q144 q1850) rfl rfl rfl hd_X7_isFrom.2 ⟨(Nat.le_of_ble_eq_true rfl), (Nat.le_of_ble_eq_true rfl)⟩) rfl hl.1 rfl (Nat.le_of_ble_eq_true rfl) dX7_spoils_6 ⟨Nat.le_refl _, Nat.le_refl _⟩ ?_
  refine zr_neB (mf_isFrom nights.toInt64 0 30) (tgt := 16) hx hb dX7_spoils_9 (by decide) (fun c_1 => ?_) (fun c_1 => ?_)
  · obtain ⟨hm0, hm1, hm2⟩ := isFrom_t (a := 0) (N := 30) (by decide) (by decide) c_1
    refine lv_aload_n hx hb dX7_spoils_16 rfl (lv_at hl 0 rfl) ?_
    refine lv_iload_n hx hb dX7_spoils_17 rfl (lv_at hl 1 rfl) ?_
    refine lv_iload_n hx hb dX7_spoils_18 rfl (lv_at hl 2 rfl) ?_
    refine zr_obV ⟨hx, hb, hml, hown, hts⟩ (mt_mf_wrongLamp l G ad m_status m_top m_bottom m_taped m_size m_token m_from m_end m_value m_faultKind m_faultPlace m_faults m_seen m_depth m_counted m_lead m_round m_tried m_triedMany m_drawn m_ranSteps m_isTold m_marks m_at m_names m_sort m_trayMany m_trays m_tape m_text m_opened m_beside m_then m_ways m_further m_canBe m_loops m_ran m_told0 Wd R nr nc x y hG) (cwV 2 hts (lw_V q1839 q1841 qs100 q144 q1842) rfl rfl rfl hd_X7_wrongLamp ⟨(Nat.le_of_ble_eq_true rfl), (Nat.le_of_ble_eq_true rfl)⟩) hP hK (zE_o hE hS) 0 7 rfl rfl rfl hl.1 rfl (Nat.le_of_ble_eq_true rfl) dX7_spoils_19 ⟨Nat.le_refl _, Nat.le_refl _⟩ ?_
    refine lv_istore (lv' := [(4, .int (mf_wrongLamp m_at Wd R x y)), (0, .ref (ad 0)), (1, .int x), (2, .int y), (3, .int nights)]) hx hb dX7_spoils_22 hl (by decide) rfl (fun ls hl => ?_)
    refine lv_iload hx hb dX7_spoils_24 (lv_at hl 0 rfl) ?_
    refine lv_if_le (tgt := 38) hx hb dX7_spoils_26 (by decide) (fun c_2 => ?_) (fun c_2 => ?_)
    · refine lv_aload_n hx hb dX7_spoils_38 rfl (lv_at hl 1 rfl) ?_
      refine lv_aload_n hx hb dX7_spoils_39 rfl (lv_at hl 1 rfl) ?_
      refine lv_aload_n hx hb dX7_spoils_40 rfl (lv_at hl 1 rfl) ?_
      refine lv_iload_n hx hb dX7_spoils_41 rfl (lv_at hl 2 rfl) ?_
      refine lv_iload_n hx hb dX7_spoils_42 rfl (lv_at hl 3 rfl) ?_
      refine zr_obV ⟨hx, hb, hml, hown, hts⟩ (mt_mf_bitOf l G ad m_status m_top m_bottom m_taped m_size m_token m_from m_end m_value m_faultKind m_faultPlace m_faults m_seen m_depth m_counted m_lead m_round m_tried m_triedMany m_drawn m_ranSteps m_isTold m_marks m_at m_names m_sort m_trayMany m_trays m_tape m_text m_opened m_beside m_then m_ways m_further m_canBe m_loops m_ran m_told0 Wd R nr nc x y hG) (cwV 2 hts (lw_V q1807 q1809 qs95 q144 q1810) rfl rfl rfl hd_X7_bitOf ⟨(Nat.le_of_ble_eq_true rfl), (Nat.le_of_ble_eq_true rfl)⟩) hP hK (zE_o hE hS) 0 7 rfl rfl rfl hl.1 rfl (Nat.le_of_ble_eq_true rfl) dX7_spoils_43 ⟨Nat.le_refl _, Nat.le_refl _⟩ ?_
      refine lv_iload_n hx hb dX7_spoils_46 rfl (lv_at hl 4 rfl) ?_
      refine zr_val (congrArg Value.int (z_nn hm0)) ?_
      refine W.eq (g2 := F0 m 47 ls [.int (nI nights.toNatClampNeg), .int (mf_bitOf Wd x y), .ref (ad 0), .ref (ad 0)]) rfl ?_
      refine zr_muV (F := mf_spoilsBy m_at m_beside Wd R (mf_bitOf Wd x y) nights.toNatClampNeg) (ff := fun t_3 => True) (rr := fun t_3 => some (.int (nI t_3.1))) (w1 := fun t_3 => (mW G ad m_status m_top m_bottom m_taped m_size m_token m_from m_end m_value m_faultKind m_faultPlace m_faults m_seen m_depth m_counted m_lead m_round m_tried m_triedMany m_drawn m_ranSteps m_isTold m_marks m_at m_names m_sort m_trayMany m_trays m_tape m_text m_opened t_3.2 m_then m_ways m_further m_canBe m_loops m_ran m_told0)) ⟨hx, hb, hml, hown, hts⟩ (mt_mf_spoilsBy l G ad m_status m_top m_bottom m_taped m_size m_token m_from m_end m_value m_faultKind m_faultPlace m_faults m_seen m_depth m_counted m_lead m_round m_tried m_triedMany m_drawn m_ranSteps m_isTold m_marks m_at m_names m_sort m_trayMany m_trays m_tape m_text m_opened m_beside m_then m_ways m_further m_canBe m_loops m_ran m_told0 Wd R nr nc (mf_bitOf Wd x y) nights.toNatClampNeg hG (by omega) H.size) (cwV 2 hts (lw_V q2005 q2007 qs118 q144 q2008) rfl rfl rfl hd_X7_spoilsBy ⟨(Nat.le_of_ble_eq_true rfl), (Nat.le_of_ble_eq_true rfl)⟩) hP hD hS hA hK hE 0 7 rfl rfl rfl hl.1 rfl (Nat.le_of_ble_eq_true rfl) dX7_spoils_47 ⟨Nat.le_refl _, Nat.le_refl _⟩ (fun t_3 ht_3 hft_3 H locs hP hD hS _ => ?_)
      refine W.eq (g2 := F0 m 50 ls [.int (nI t_3.1), .ref (ad 0)]) rfl ?_
      refine zr_muV (F := ()) (ff := fun _ => True) (rr := fun _ => some (.int (nI t_3.1))) (w1 := fun _ => (mW G ad 0 m_top m_bottom m_taped m_size m_token m_from m_end m_value m_faultKind m_faultPlace m_faults m_seen m_depth m_counted m_lead m_round m_tried m_triedMany m_drawn m_ranSteps m_isTold m_marks m_at m_names m_sort m_trayMany m_trays m_tape m_text m_opened t_3.2 m_then m_ways m_further m_canBe m_loops m_ran m_told0)) ⟨hx, hb, hml, hown, hts⟩ (mt_mf_gives l G ad m_status m_top m_bottom m_taped m_size m_token m_from m_end m_value m_faultKind m_faultPlace m_faults m_seen m_depth m_counted m_lead m_round m_tried m_triedMany m_drawn m_ranSteps m_isTold m_marks m_at m_names m_sort m_trayMany m_trays m_tape m_text m_opened t_3.2 m_then m_ways m_further m_canBe m_loops m_ran m_told0 (nI t_3.1) H.size) (cwV 1 hts (lw_V q1751 q1753 qs85 q144 q1754) rfl rfl rfl hd_X7_gives ⟨(Nat.le_of_ble_eq_true rfl), (Nat.le_of_ble_eq_true rfl)⟩) hP hD hS hA hK hE 0 7 rfl rfl rfl hl.1 rfl (Nat.le_of_ble_eq_true rfl) dX7_spoils_50 ⟨Nat.le_refl _, Nat.le_refl _⟩ (fun _ _ _ H locs hP hD hS _ => ?_)
      refine W.eq (g2 := F0 m 53 ls [.int (nI t_3.1)]) rfl ?_
      have e_ : mf_spoils m_at m_beside Wd R x y nights = (nI t_3.1, 0, t_3.2) := by rw [mf_spoils, if_pos c_1, if_pos c_2, zlet_eq ht_3]
      exact zr_mi hx hb hr hlocks hP hD hS dX7_spoils_53 (by rw [e_])  (by rw [e_]) trivial
    · refine lv_aload_n hx hb dX7_spoils_29 rfl (lv_at hl 1 rfl) ?_
      refine lv_iload hx hb dX7_spoils_30 (lv_at hl 0 rfl) ?_
      refine zr_muV (F := ()) (ff := fun _ => True) (rr := fun _ => some (.int (-1))) (w1 := fun _ => (mW G ad (mf_wrongLamp m_at Wd R x y) m_top m_bottom m_taped m_size m_token m_from m_end m_value m_faultKind m_faultPlace m_faults m_seen m_depth m_counted m_lead m_round m_tried m_triedMany m_drawn m_ranSteps m_isTold m_marks m_at m_names m_sort m_trayMany m_trays m_tape m_text m_opened m_beside m_then m_ways m_further m_canBe m_loops m_ran m_told0)) ⟨hx, hb, hml, hown, hts⟩ (mt_mf_refuse l G ad m_status m_top m_bottom m_taped m_size m_token m_from m_end m_value m_faultKind m_faultPlace m_faults m_seen m_depth m_counted m_lead m_round m_tried m_triedMany m_drawn m_ranSteps m_isTold m_marks m_at m_names m_sort m_trayMany m_trays m_tape m_text m_opened m_beside m_then m_ways m_further m_canBe m_loops m_ran m_told0 (mf_wrongLamp m_at Wd R x y) H.size) (cwV 1 hts (lw_V q1666 q1668 qs66 q144 q1669) rfl rfl rfl hd_X7_refuse ⟨(Nat.le_of_ble_eq_true rfl), (Nat.le_of_ble_eq_true rfl)⟩) hP hD hS hA hK hE 0 7 rfl rfl rfl hl.1 rfl (Nat.le_of_ble_eq_true rfl) dX7_spoils_32 ⟨Nat.le_refl _, Nat.le_refl _⟩ (fun _ _ _ H locs hP hD hS _ => ?_)
      refine W.eq (g2 := F0 m 35 ls [.int (-1)]) rfl ?_
      refine lv_goto (tgt := 53) hx hb dX7_spoils_35 (by decide) ?_
      have e_ : mf_spoils m_at m_beside Wd R x y nights = ((-1), mf_wrongLamp m_at Wd R x y, m_beside) := by rw [mf_spoils, if_pos c_1, if_neg c_2]
      exact zr_mi hx hb hr hlocks hP hD hS dX7_spoils_53 (by rw [e_])  (by rw [e_]) trivial
  · refine lv_iconst (v := 1) hx hb dX7_spoils_12 (by decide) ?_
    refine lv_goto (tgt := 22) hx hb dX7_spoils_13 (by decide) ?_
    refine lv_istore (lv' := [(4, .int 1), (0, .ref (ad 0)), (1, .int x), (2, .int y), (3, .int nights)]) hx hb dX7_spoils_22 hl (by decide) rfl (fun ls hl => ?_)
    refine lv_iload hx hb dX7_spoils_24 (lv_at hl 0 rfl) ?_
    refine lv_if_le (tgt := 38) hx hb dX7_spoils_26 (by decide) (fun z => absurd z (by decide)) (fun _ => ?_)
    refine lv_aload_n hx hb dX7_spoils_29 rfl (lv_at hl 1 rfl) ?_
    refine lv_iload hx hb dX7_spoils_30 (lv_at hl 0 rfl) ?_
    refine zr_muV (F := ()) (ff := fun _ => True) (rr := fun _ => some (.int (-1))) (w1 := fun _ => (mW G ad 1 m_top m_bottom m_taped m_size m_token m_from m_end m_value m_faultKind m_faultPlace m_faults m_seen m_depth m_counted m_lead m_round m_tried m_triedMany m_drawn m_ranSteps m_isTold m_marks m_at m_names m_sort m_trayMany m_trays m_tape m_text m_opened m_beside m_then m_ways m_further m_canBe m_loops m_ran m_told0)) ⟨hx, hb, hml, hown, hts⟩ (mt_mf_refuse l G ad m_status m_top m_bottom m_taped m_size m_token m_from m_end m_value m_faultKind m_faultPlace m_faults m_seen m_depth m_counted m_lead m_round m_tried m_triedMany m_drawn m_ranSteps m_isTold m_marks m_at m_names m_sort m_trayMany m_trays m_tape m_text m_opened m_beside m_then m_ways m_further m_canBe m_loops m_ran m_told0 1 H.size) (cwV 1 hts (lw_V q1666 q1668 qs66 q144 q1669) rfl rfl rfl hd_X7_refuse ⟨(Nat.le_of_ble_eq_true rfl), (Nat.le_of_ble_eq_true rfl)⟩) hP hD hS hA hK hE 0 7 rfl rfl rfl hl.1 rfl (Nat.le_of_ble_eq_true rfl) dX7_spoils_32 ⟨Nat.le_refl _, Nat.le_refl _⟩ (fun _ _ _ H locs hP hD hS _ => ?_)
    refine W.eq (g2 := F0 m 35 ls [.int (-1)]) rfl ?_
    refine lv_goto (tgt := 53) hx hb dX7_spoils_35 (by decide) ?_
    have e_ : mf_spoils m_at m_beside Wd R x y nights = ((-1), 1, m_beside) := by rw [mf_spoils, if_neg c_1]
    exact zr_mi hx hb hr hlocks hP hD hS dX7_spoils_53 (by rw [e_])  (by rw [e_]) trivial
def mf_worst_B35 (m_at : Nat → Int32) (Wd : Nat) (R : Nat) (nights : Int32) (k_6 : Nat) (s_6 : Int32 × Int32 × (Nat → Int32)) : Int32 × Int32 × (Nat → Int32) :=
  (if (((mf_free m_at) >>> ((nI k_6) &&& 31)) &&& 1) = 0 then
    (s_6.1, s_6.2.1, s_6.2.2)
  else
    zlet (mf_spoilsBy m_at s_6.2.2 Wd R ((1 : Int32) <<< ((nI k_6) &&& 31)) nights.toNatClampNeg) (fun t_8 =>
    (if s_6.1 < (nI t_8.1) then
      (nI t_8.1, nI k_6, t_8.2)
    else
      (s_6.1, s_6.2.1, t_8.2))))
def mf_worst_L35 (m_at : Nat → Int32) (Wd : Nat) (R : Nat) (nights : Int32) (s_6 : Int32 × Int32 × (Nat → Int32)) : Int32 × Int32 × (Nat → Int32) := zf (mf_worst_B35 m_at Wd R nights) s_6 (Wd * R)
def mf_worst (m_at : Nat → Int32) (m_beside : Nat → Int32) (Wd : Nat) (R : Nat) (nights : Int32) (what : Int32) : Int32 × Int32 × (Nat → Int32) :=
  (if (mf_isFrom nights.toInt64 0 30) = true then
    (if what < 0 then
      ((-1), 1, m_beside)
    else
      (if what ≤ 1 then
        zlet (mf_worst_L35 m_at Wd R nights ((-1), (-1), m_beside)) (fun s_6 =>
        (if what = 0 then
          zlet (mf_orNone s_6.2.1) (fun t_12 =>
          (t_12.1, t_12.2, s_6.2.2))
        else
          zlet (mf_orNone s_6.1) (fun t_11 =>
          (t_11.1, t_11.2, s_6.2.2))))
      else
        ((-1), 1, m_beside)))
  else
    ((-1), 1, m_beside))
theorem hd_X7_worst : yX7_worst.cls = RX7 ∧ yX7_worst.cls ≠ "java/lang/invoke/MethodHandle" ∧ yX7_worst.cls ≠ "java/lang/invoke/VarHandle" ∧ (parseMethodDescriptor yX7_worst.desc).map (fun d => d.parameters.length) = some 2 := by decide +kernel
set_option maxHeartbeats 4000000 in
set_option maxRecDepth 100000 in
theorem mt_mf_worst (l : Launch) (G : zG) (ad : Nat → Nat) (m_status : Int32) (m_top : Int64) (m_bottom : Int64) (m_taped : Int32) (m_size : Int32) (m_token : Int32) (m_from : Int32) (m_end : Int32) (m_value : Int32) (m_faultKind : Int32) (m_faultPlace : Int32) (m_faults : Int32) (m_seen : Int32) (m_depth : Int32) (m_counted : Int32) (m_lead : Int32) (m_round : Int32) (m_tried : Int32) (m_triedMany : Int32) (m_drawn : Int32) (m_ranSteps : Int32) (m_isTold : Bool) (m_marks : Int32) (m_at : Nat → Int32) (m_names : Nat → Int64) (m_sort : Nat → Int32) (m_trayMany : Nat → Int32) (m_trays : Nat → Int64) (m_tape : Nat → Int32) (m_text : Nat → Int32) (m_opened : Nat → Int32) (m_beside : Nat → Int32) (m_then : Nat → Int32) (m_ways : Nat → Int64) (m_further : Nat → Int64) (m_canBe : Nat → Int32) (m_loops : Nat → Int32) (m_ran : Nat → Int32) (m_told0 : Nat → Int32) (Wd : Nat) (R : Nat) (nr : Nat) (nc : Nat) (nights : Int32) (what : Int32) (hG : mOK m_at Wd R nr nc) (sz : Nat) : Met l yX7_worst (ws_ yX7_worst cX7_worst 7 (some .int)) (zR 6 0 0) (zPm G sz [.ref (ad 0), .int nights, .int what] (mW G ad m_status m_top m_bottom m_taped m_size m_token m_from m_end m_value m_faultKind m_faultPlace m_faults m_seen m_depth m_counted m_lead m_round m_tried m_triedMany m_drawn m_ranSteps m_isTold m_marks m_at m_names m_sort m_trayMany m_trays m_tape m_text m_opened m_beside m_then m_ways m_further m_canBe m_loops m_ran m_told0)) (zQm G (True) (some (.int ((mf_worst m_at m_beside Wd R nights what).1))) (mW G ad ((mf_worst m_at m_beside Wd R nights what).2.1) m_top m_bottom m_taped m_size m_token m_from m_end m_value m_faultKind m_faultPlace m_faults m_seen m_depth m_counted m_lead m_round m_tried m_triedMany m_drawn m_ranSteps m_isTold m_marks m_at m_names m_sort m_trayMany m_trays m_tape m_text m_opened ((mf_worst m_at m_beside Wd R nights what).2.2) m_then m_ways m_further m_canBe m_loops m_ran m_told0) (va_A (mW G ad m_status m_top m_bottom m_taped m_size m_token m_from m_end m_value m_faultKind m_faultPlace m_faults m_seen m_depth m_counted m_lead m_round m_tried m_triedMany m_drawn m_ranSteps m_isTold m_marks m_at m_names m_sort m_trayMany m_trays m_tape m_text m_opened m_beside m_then m_ways m_further m_canBe m_loops m_ran m_told0) sz)) 0 0 (va_A (mW G ad m_status m_top m_bottom m_taped m_size m_token m_from m_end m_value m_faultKind m_faultPlace m_faults m_seen m_depth m_counted m_lead m_round m_tried m_triedMany m_drawn m_ranSteps m_isTold m_marks m_at m_names m_sort m_trayMany m_trays m_tape m_text m_opened m_beside m_then m_ways m_further m_canBe m_loops m_ran m_told0) sz) := by
  refine zr_entM (by decide) (Nat.le_of_ble_eq_true rfl) ?_
  intro p e s m below meth c ⟨hx, hb, hr, hml, hown, hts, hlocks, hnm⟩ ls hl hP hK A hE hA hD hS
  have hown : s.vm.findClass RX7 = some m.cls := hown
  have hl : lv_has ls 7 [(0, .ref (ad 0)), (1, .int nights), (2, .int what)] := hl
  obtain ⟨H, hH⟩ : ∃ H, H = s.heap := ⟨_, rfl⟩
  obtain ⟨locs, hlo⟩ : ∃ L : List Loc, L = [] := ⟨_, rfl⟩
  rw [← hH] at hP
  have hS : va_S A s.heap H locs := by rw [hH, hlo]; exact va_S.rf
  have hgo : W p l e (zR 6 0 0) s m ([.ref (ad 0), .int nights, .int what] : List Value).toArray below meth c H locs 0 0 (MQ below (zQm G (True) (some (.int ((mf_worst m_at m_beside Wd R nights what).1))) (mW G ad ((mf_worst m_at m_beside Wd R nights what).2.1) m_top m_bottom m_taped m_size m_token m_from m_end m_value m_faultKind m_faultPlace m_faults m_seen m_depth m_counted m_lead m_round m_tried m_triedMany m_drawn m_ranSteps m_isTold m_marks m_at m_names m_sort m_trayMany m_trays m_tape m_text m_opened ((mf_worst m_at m_beside Wd R nights what).2.2) m_then m_ways m_further m_canBe m_loops m_ran m_told0) A) ([.ref (ad 0), .int nights, .int what] : List Value).toArray s 0 0 A) (F0 m 0 ls []) := ?_
  · rw [hH, hlo] at hgo; exact hgo
  clear hH hlo
  have hWR := mOK_WR hG
  have hW0 := mOK_W0 hG
  have hW5 := mOK_W5 hG
  have hR0 := mOK_R0 hG
  have hR6 := mOK_R6 hG
  have hn4 := mOK_n4 hG
  have hc6 := mOK_c6 hG
  refine lv_iload_n hx hb dX7_worst_0 rfl (lv_at hl 1 rfl) ?_
  refine lv_i2l hx hb dX7_worst_1 rfl ?_
  refine lv_lconst (v := 0) hx hb dX7_worst_2 rfl ?_
  refine lv_ldc2 (v := 30) hx hb hown (hts _ q1996) dX7_worst_3 ?_
  refine zr_puS ⟨hx, hb, hml, hown, hts⟩ (mt_mf_isFrom l nights.toInt64 0 30) (va_cwS 3 hts (lw_S q1848 q1849 q144 q1850) rfl rfl rfl hd_X7_isFrom.2 ⟨(Nat.le_of_ble_eq_true rfl), (Nat.le_of_ble_eq_true rfl)⟩) rfl hl.1 rfl (Nat.le_of_ble_eq_true rfl) dX7_worst_6 ⟨Nat.le_refl _, Nat.le_refl _⟩ ?_
  refine zr_eqB (mf_isFrom nights.toInt64 0 30) (tgt := 21) hx hb dX7_worst_9 (by decide) (fun c_1 => ?_) (fun c_1 => ?_)
  · refine lv_aload_n hx hb dX7_worst_21 rfl (lv_at hl 0 rfl) ?_
    refine lv_iconst (v := 1) hx hb dX7_worst_22 (by decide) ?_
    refine zr_muV (F := ()) (ff := fun _ => True) (rr := fun _ => some (.int (-1))) (w1 := fun _ => (mW G ad 1 m_top m_bottom m_taped m_size m_token m_from m_end m_value m_faultKind m_faultPlace m_faults m_seen m_depth m_counted m_lead m_round m_tried m_triedMany m_drawn m_ranSteps m_isTold m_marks m_at m_names m_sort m_trayMany m_trays m_tape m_text m_opened m_beside m_then m_ways m_further m_canBe m_loops m_ran m_told0)) ⟨hx, hb, hml, hown, hts⟩ (mt_mf_refuse l G ad m_status m_top m_bottom m_taped m_size m_token m_from m_end m_value m_faultKind m_faultPlace m_faults m_seen m_depth m_counted m_lead m_round m_tried m_triedMany m_drawn m_ranSteps m_isTold m_marks m_at m_names m_sort m_trayMany m_trays m_tape m_text m_opened m_beside m_then m_ways m_further m_canBe m_loops m_ran m_told0 1 H.size) (cwV 1 hts (lw_V q1666 q1668 qs66 q144 q1669) rfl rfl rfl hd_X7_refuse ⟨(Nat.le_of_ble_eq_true rfl), (Nat.le_of_ble_eq_true rfl)⟩) hP hD hS hA hK hE 0 7 rfl rfl rfl hl.1 rfl (Nat.le_of_ble_eq_true rfl) dX7_worst_23 ⟨Nat.le_refl _, Nat.le_refl _⟩ (fun _ _ _ H locs hP hD hS _ => ?_)
    refine W.eq (g2 := F0 m 26 ls [.int (-1)]) rfl ?_
    have e_ : mf_worst m_at m_beside Wd R nights what = ((-1), 1, m_beside) := by rw [mf_worst, if_neg c_1]
    exact zr_mi hx hb hr hlocks hP hD hS dX7_worst_26 (by rw [e_])  (by rw [e_]) trivial
  · obtain ⟨hm0, hm1, hm2⟩ := isFrom_t (a := 0) (N := 30) (by decide) (by decide) c_1
    refine lv_iload_n hx hb dX7_worst_12 rfl (lv_at hl 2 rfl) ?_
    refine lv_if_lt (tgt := 21) hx hb dX7_worst_13 (by decide) (fun c_3 => ?_) (fun c_3 => ?_)
    · refine lv_aload_n hx hb dX7_worst_21 rfl (lv_at hl 0 rfl) ?_
      refine lv_iconst (v := 1) hx hb dX7_worst_22 (by decide) ?_
      refine zr_muV (F := ()) (ff := fun _ => True) (rr := fun _ => some (.int (-1))) (w1 := fun _ => (mW G ad 1 m_top m_bottom m_taped m_size m_token m_from m_end m_value m_faultKind m_faultPlace m_faults m_seen m_depth m_counted m_lead m_round m_tried m_triedMany m_drawn m_ranSteps m_isTold m_marks m_at m_names m_sort m_trayMany m_trays m_tape m_text m_opened m_beside m_then m_ways m_further m_canBe m_loops m_ran m_told0)) ⟨hx, hb, hml, hown, hts⟩ (mt_mf_refuse l G ad m_status m_top m_bottom m_taped m_size m_token m_from m_end m_value m_faultKind m_faultPlace m_faults m_seen m_depth m_counted m_lead m_round m_tried m_triedMany m_drawn m_ranSteps m_isTold m_marks m_at m_names m_sort m_trayMany m_trays m_tape m_text m_opened m_beside m_then m_ways m_further m_canBe m_loops m_ran m_told0 1 H.size) (cwV 1 hts (lw_V q1666 q1668 qs66 q144 q1669) rfl rfl rfl hd_X7_refuse ⟨(Nat.le_of_ble_eq_true rfl), (Nat.le_of_ble_eq_true rfl)⟩) hP hD hS hA hK hE 0 7 rfl rfl rfl hl.1 rfl (Nat.le_of_ble_eq_true rfl) dX7_worst_23 ⟨Nat.le_refl _, Nat.le_refl _⟩ (fun _ _ _ H locs hP hD hS _ => ?_)
      refine W.eq (g2 := F0 m 26 ls [.int (-1)]) rfl ?_
      have e_ : mf_worst m_at m_beside Wd R nights what = ((-1), 1, m_beside) := by rw [mf_worst, if_pos c_1, if_pos c_3]
      exact zr_mi hx hb hr hlocks hP hD hS dX7_worst_26 (by rw [e_])  (by rw [e_]) trivial
    · refine lv_iload_n hx hb dX7_worst_16 rfl (lv_at hl 2 rfl) ?_
      refine lv_iconst (v := 1) hx hb dX7_worst_17 (by decide) ?_
      refine lv_icmp_le (tgt := 27) hx hb dX7_worst_18 (by decide) (fun c_5 => ?_) (fun c_5 => ?_)
      · refine lv_iconst (v := (-1)) hx hb dX7_worst_27 (by decide) ?_
        refine lv_istore_n (lv' := [(3, .int (-1)), (0, .ref (ad 0)), (1, .int nights), (2, .int what)]) hx hb dX7_worst_28 rfl hl (by decide) rfl (fun ls hl => ?_)
        refine lv_iconst (v := (-1)) hx hb dX7_worst_29 (by decide) ?_
        refine lv_istore (lv' := [(4, .int (-1)), (3, .int (-1)), (0, .ref (ad 0)), (1, .int nights), (2, .int what)]) hx hb dX7_worst_30 hl (by decide) rfl (fun ls hl => ?_)
        have hl : lv_has ls 7 [(4, .int (-1)), (3, .int (-1)), (0, .ref (ad 0)), (1, .int (nI nights.toNatClampNeg)), (2, .int what)] := by rw [← (z_nn hm0 : nights = nI nights.toNatClampNeg)]; exact hl
        refine lv_iconst (v := 0) hx hb dX7_worst_32 (by decide) ?_
        refine lv_istore (lv' := [(5, .int 0), (4, .int (-1)), (3, .int (-1)), (0, .ref (ad 0)), (1, .int (nI nights.toNatClampNeg)), (2, .int what)]) hx hb dX7_worst_33 hl (by decide) rfl (fun ls hl => ?_)
        have hlp_6 : ∀ (n k_6 : Nat) (s_6 : Int32 × Int32 × (Nat → Int32)), k_6 ≤ Wd * R → Wd * R < k_6 + n → zf (mf_worst_B35 m_at Wd R nights) ((-1), (-1), m_beside) k_6 = s_6 → ∀ (H : Heap) (locs : List Loc), va_P G.1 zcl (mW G ad m_status m_top m_bottom m_taped m_size m_token m_from m_end m_value m_faultKind m_faultPlace m_faults m_seen m_depth m_counted m_lead m_round m_tried m_triedMany m_drawn m_ranSteps m_isTold m_marks m_at m_names m_sort m_trayMany m_trays m_tape m_text m_opened s_6.2.2 m_then m_ways m_further m_canBe m_loops m_ran m_told0) H → va_D A (mW G ad m_status m_top m_bottom m_taped m_size m_token m_from m_end m_value m_faultKind m_faultPlace m_faults m_seen m_depth m_counted m_lead m_round m_tried m_triedMany m_drawn m_ranSteps m_isTold m_marks m_at m_names m_sort m_trayMany m_trays m_tape m_text m_opened s_6.2.2 m_then m_ways m_further m_canBe m_loops m_ran m_told0) → va_S A s.heap H locs → ∀ ls : Array Slot, lv_has ls 7 [(5, .int (nI k_6)), (4, .int s_6.1), (3, .int s_6.2.1), (0, .ref (ad 0)), (1, .int (nI nights.toNatClampNeg)), (2, .int what)] → W p l e (zR 6 0 0) s m ([.ref (ad 0), .int nights, .int what] : List Value).toArray below meth c H locs 0 0 (MQ below (zQm G (True) (some (.int ((mf_worst m_at m_beside Wd R nights what).1))) (mW G ad ((mf_worst m_at m_beside Wd R nights what).2.1) m_top m_bottom m_taped m_size m_token m_from m_end m_value m_faultKind m_faultPlace m_faults m_seen m_depth m_counted m_lead m_round m_tried m_triedMany m_drawn m_ranSteps m_isTold m_marks m_at m_names m_sort m_trayMany m_trays m_tape m_text m_opened ((mf_worst m_at m_beside Wd R nights what).2.2) m_then m_ways m_further m_canBe m_loops m_ran m_told0) A) ([.ref (ad 0), .int nights, .int what] : List Value).toArray s 0 0 A) (F0 m 35 ls []) := by
          intro n
          induction n with
          | zero => intro k_6 s_6 h1 h2; exact absurd h2 (by omega)
          | succ n ih_6 =>
            intro k_6 s_6 hk_6 hn_6 hst_6 H locs hP hD hS ls hl
            refine lv_iload hx hb dX7_worst_35 (lv_at hl 0 rfl) ?_
            refine lv_aload_n hx hb dX7_worst_37 rfl (lv_at hl 3 rfl) ?_
            refine zr_obV ⟨hx, hb, hml, hown, hts⟩ (mt_mf_places l G ad m_status m_top m_bottom m_taped m_size m_token m_from m_end m_value m_faultKind m_faultPlace m_faults m_seen m_depth m_counted m_lead m_round m_tried m_triedMany m_drawn m_ranSteps m_isTold m_marks m_at m_names m_sort m_trayMany m_trays m_tape m_text m_opened s_6.2.2 m_then m_ways m_further m_canBe m_loops m_ran m_told0 Wd R nr nc hG) (cwV 0 hts (lw_V q1815 q1817 qs97 q144 q1818) rfl rfl rfl hd_X7_places ⟨(Nat.le_of_ble_eq_true rfl), (Nat.le_of_ble_eq_true rfl)⟩) hP hK (zE_o hE hS) 0 7 rfl rfl rfl hl.1 rfl (Nat.le_of_ble_eq_true rfl) dX7_worst_38 ⟨Nat.le_refl _, Nat.le_refl _⟩ ?_
            refine zr_ge k_6 (Wd * R) (by omega) (by omega) (tgt := 93) hx hb dX7_worst_41 (by decide) (fun c_6 => ?_) (fun c_6 => ?_)
            · have ek_6 : k_6 = Wd * R := Nat.le_antisymm hk_6 c_6
              have hs_6 : mf_worst_L35 m_at Wd R nights ((-1), (-1), m_beside) = s_6 := by rw [ek_6] at hst_6; exact hst_6
              have hl := lv_sub hl (l' := _) [1, 2, 3, 4, 5] rfl
              refine lv_aload_n hx hb dX7_worst_93 rfl (lv_at hl 2 rfl) ?_
              refine lv_iload_n hx hb dX7_worst_94 rfl (lv_at hl 4 rfl) ?_
              refine lv_if_ne (tgt := 102) hx hb dX7_worst_95 (by decide) (fun c_10 => ?_) (fun c_10 => ?_)
              · refine lv_iload hx hb dX7_worst_102 (lv_at hl 0 rfl) ?_
                refine zr_muV (F := mf_orNone s_6.1) (ff := fun t_11 => True) (rr := fun t_11 => some (.int t_11.1)) (w1 := fun t_11 => (mW G ad t_11.2 m_top m_bottom m_taped m_size m_token m_from m_end m_value m_faultKind m_faultPlace m_faults m_seen m_depth m_counted m_lead m_round m_tried m_triedMany m_drawn m_ranSteps m_isTold m_marks m_at m_names m_sort m_trayMany m_trays m_tape m_text m_opened s_6.2.2 m_then m_ways m_further m_canBe m_loops m_ran m_told0)) ⟨hx, hb, hml, hown, hts⟩ (mt_mf_orNone l G ad m_status m_top m_bottom m_taped m_size m_token m_from m_end m_value m_faultKind m_faultPlace m_faults m_seen m_depth m_counted m_lead m_round m_tried m_triedMany m_drawn m_ranSteps m_isTold m_marks m_at m_names m_sort m_trayMany m_trays m_tape m_text m_opened s_6.2.2 m_then m_ways m_further m_canBe m_loops m_ran m_told0 s_6.1 H.size) (cwV 1 hts (lw_V q1783 q1785 qs91 q144 q1786) rfl rfl rfl hd_X7_orNone ⟨(Nat.le_of_ble_eq_true rfl), (Nat.le_of_ble_eq_true rfl)⟩) hP hD hS hA hK hE 0 7 rfl rfl rfl hl.1 rfl (Nat.le_of_ble_eq_true rfl) dX7_worst_104 ⟨Nat.le_refl _, Nat.le_refl _⟩ (fun t_11 ht_11 hft_11 H locs hP hD hS _ => ?_)
                refine W.eq (g2 := F0 m 107 ls [.int t_11.1]) rfl ?_
                have e_ : mf_worst m_at m_beside Wd R nights what = (t_11.1, t_11.2, s_6.2.2) := by rw [mf_worst, if_pos c_1, if_neg c_3, if_pos c_5, zlet_eq hs_6, if_neg c_10, zlet_eq ht_11]
                exact zr_mi hx hb hr hlocks hP hD hS dX7_worst_107 (by rw [e_])  (by rw [e_]) trivial
              · refine lv_iload_n hx hb dX7_worst_98 rfl (lv_at hl 1 rfl) ?_
                refine lv_goto (tgt := 104) hx hb dX7_worst_99 (by decide) ?_
                refine zr_muV (F := mf_orNone s_6.2.1) (ff := fun t_12 => True) (rr := fun t_12 => some (.int t_12.1)) (w1 := fun t_12 => (mW G ad t_12.2 m_top m_bottom m_taped m_size m_token m_from m_end m_value m_faultKind m_faultPlace m_faults m_seen m_depth m_counted m_lead m_round m_tried m_triedMany m_drawn m_ranSteps m_isTold m_marks m_at m_names m_sort m_trayMany m_trays m_tape m_text m_opened s_6.2.2 m_then m_ways m_further m_canBe m_loops m_ran m_told0)) ⟨hx, hb, hml, hown, hts⟩ (mt_mf_orNone l G ad m_status m_top m_bottom m_taped m_size m_token m_from m_end m_value m_faultKind m_faultPlace m_faults m_seen m_depth m_counted m_lead m_round m_tried m_triedMany m_drawn m_ranSteps m_isTold m_marks m_at m_names m_sort m_trayMany m_trays m_tape m_text m_opened s_6.2.2 m_then m_ways m_further m_canBe m_loops m_ran m_told0 s_6.2.1 H.size) (cwV 1 hts (lw_V q1783 q1785 qs91 q144 q1786) rfl rfl rfl hd_X7_orNone ⟨(Nat.le_of_ble_eq_true rfl), (Nat.le_of_ble_eq_true rfl)⟩) hP hD hS hA hK hE 0 7 rfl rfl rfl hl.1 rfl (Nat.le_of_ble_eq_true rfl) dX7_worst_104 ⟨Nat.le_refl _, Nat.le_refl _⟩ (fun t_12 ht_12 hft_12 H locs hP hD hS _ => ?_)
                refine W.eq (g2 := F0 m 107 ls [.int t_12.1]) rfl ?_
                have e_ : mf_worst m_at m_beside Wd R nights what = (t_12.1, t_12.2, s_6.2.2) := by rw [mf_worst, if_pos c_1, if_neg c_3, if_pos c_5, zlet_eq hs_6, if_pos c_10, zlet_eq ht_12]
                exact zr_mi hx hb hr hlocks hP hD hS dX7_worst_107 (by rw [e_])  (by rw [e_]) trivial
            · have hlt_6 : k_6 < Wd * R := Nat.lt_of_not_le c_6
              refine lv_aload_n hx hb dX7_worst_44 rfl (lv_at hl 3 rfl) ?_
              refine zr_obV ⟨hx, hb, hml, hown, hts⟩ (mt_mf_free l G ad m_status m_top m_bottom m_taped m_size m_token m_from m_end m_value m_faultKind m_faultPlace m_faults m_seen m_depth m_counted m_lead m_round m_tried m_triedMany m_drawn m_ranSteps m_isTold m_marks m_at m_names m_sort m_trayMany m_trays m_tape m_text m_opened s_6.2.2 m_then m_ways m_further m_canBe m_loops m_ran m_told0) (cwV 0 hts (lw_V q1855 q1857 qs102 q144 q1858) rfl rfl rfl hd_X7_free ⟨(Nat.le_of_ble_eq_true rfl), (Nat.le_of_ble_eq_true rfl)⟩) hP hK (zE_o hE hS) 0 7 rfl rfl rfl hl.1 rfl (Nat.le_of_ble_eq_true rfl) dX7_worst_45 ⟨Nat.le_refl _, Nat.le_refl _⟩ ?_
              refine lv_iload hx hb dX7_worst_48 (lv_at hl 0 rfl) ?_
              refine lv_ishr hx hb dX7_worst_50 ?_
              refine lv_iconst (v := 1) hx hb dX7_worst_51 (by decide) ?_
              refine lv_iand hx hb dX7_worst_52 ?_
              refine lv_if_ne (tgt := 59) hx hb dX7_worst_53 (by decide) (fun c_7 => ?_) (fun c_7 => ?_)
              · refine lv_aload_n hx hb dX7_worst_59 rfl (lv_at hl 3 rfl) ?_
                refine lv_iconst (v := 1) hx hb dX7_worst_60 (by decide) ?_
                refine lv_iload hx hb dX7_worst_61 (lv_at hl 0 rfl) ?_
                refine lv_ishl hx hb dX7_worst_63 ?_
                refine lv_iload_n hx hb dX7_worst_64 rfl (lv_at hl 4 rfl) ?_
                refine zr_muV (F := mf_spoilsBy m_at s_6.2.2 Wd R ((1 : Int32) <<< ((nI k_6) &&& 31)) nights.toNatClampNeg) (ff := fun t_8 => True) (rr := fun t_8 => some (.int (nI t_8.1))) (w1 := fun t_8 => (mW G ad m_status m_top m_bottom m_taped m_size m_token m_from m_end m_value m_faultKind m_faultPlace m_faults m_seen m_depth m_counted m_lead m_round m_tried m_triedMany m_drawn m_ranSteps m_isTold m_marks m_at m_names m_sort m_trayMany m_trays m_tape m_text m_opened t_8.2 m_then m_ways m_further m_canBe m_loops m_ran m_told0)) ⟨hx, hb, hml, hown, hts⟩ (mt_mf_spoilsBy l G ad m_status m_top m_bottom m_taped m_size m_token m_from m_end m_value m_faultKind m_faultPlace m_faults m_seen m_depth m_counted m_lead m_round m_tried m_triedMany m_drawn m_ranSteps m_isTold m_marks m_at m_names m_sort m_trayMany m_trays m_tape m_text m_opened s_6.2.2 m_then m_ways m_further m_canBe m_loops m_ran m_told0 Wd R nr nc ((1 : Int32) <<< ((nI k_6) &&& 31)) nights.toNatClampNeg hG (by omega) H.size) (cwV 2 hts (lw_V q2005 q2007 qs118 q144 q2008) rfl rfl rfl hd_X7_spoilsBy ⟨(Nat.le_of_ble_eq_true rfl), (Nat.le_of_ble_eq_true rfl)⟩) hP hD hS hA hK hE 0 7 rfl rfl rfl hl.1 rfl (Nat.le_of_ble_eq_true rfl) dX7_worst_65 ⟨Nat.le_refl _, Nat.le_refl _⟩ (fun t_8 ht_8 hft_8 H locs hP hD hS _ => ?_)
                refine W.eq (g2 := F0 m 68 ls [.int (nI t_8.1)]) rfl ?_
                refine lv_istore (lv' := [(6, .int (nI t_8.1)), (5, .int (nI k_6)), (4, .int s_6.1), (3, .int s_6.2.1), (0, .ref (ad 0)), (1, .int (nI nights.toNatClampNeg)), (2, .int what)]) hx hb dX7_worst_68 hl (by decide) rfl (fun ls hl => ?_)
                refine lv_iload hx hb dX7_worst_70 (lv_at hl 0 rfl) ?_
                refine lv_iload hx hb dX7_worst_72 (lv_at hl 2 rfl) ?_
                refine lv_icmp_gt (tgt := 80) hx hb dX7_worst_74 (by decide) (fun c_9 => ?_) (fun c_9 => ?_)
                · refine lv_iload hx hb dX7_worst_80 (lv_at hl 0 rfl) ?_
                  refine lv_istore (lv' := [(4, .int (nI t_8.1)), (6, .int (nI t_8.1)), (5, .int (nI k_6)), (3, .int s_6.2.1), (0, .ref (ad 0)), (1, .int (nI nights.toNatClampNeg)), (2, .int what)]) hx hb dX7_worst_82 hl (by decide) rfl (fun ls hl => ?_)
                  refine lv_iload hx hb dX7_worst_84 (lv_at hl 2 rfl) ?_
                  refine lv_istore_n (lv' := [(3, .int (nI k_6)), (4, .int (nI t_8.1)), (6, .int (nI t_8.1)), (5, .int (nI k_6)), (0, .ref (ad 0)), (1, .int (nI nights.toNatClampNeg)), (2, .int what)]) hx hb dX7_worst_86 rfl hl (by decide) rfl (fun ls hl => ?_)
                  refine lv_iinc (v := nI (k_6 + 1)) (lv' := [(5, .int (nI (k_6 + 1))), (3, .int (nI k_6)), (4, .int (nI t_8.1)), (6, .int (nI t_8.1)), (0, .ref (ad 0)), (1, .int (nI nights.toNatClampNeg)), (2, .int what)]) hx hb dX7_worst_87 hl (k := 3) rfl (nI_add k_6 1) (by decide) rfl (fun ls hl => ?_)
                  refine lv_goto (tgt := 35) hx hb dX7_worst_90 (by decide) ?_
                  exact ih_6 (k_6 + 1) (nI t_8.1, nI k_6, t_8.2) hlt_6 (by omega) (zf_s hst_6 (by rw [mf_worst_B35, if_neg c_7, zlet_eq ht_8, if_pos c_9])) H locs hP hD hS ls (lv_sub hl [0, 2, 1, 4, 5, 6] rfl)
                · refine lv_goto (tgt := 87) hx hb dX7_worst_77 (by decide) ?_
                  refine lv_iinc (v := nI (k_6 + 1)) (lv' := [(5, .int (nI (k_6 + 1))), (6, .int (nI t_8.1)), (4, .int s_6.1), (3, .int s_6.2.1), (0, .ref (ad 0)), (1, .int (nI nights.toNatClampNeg)), (2, .int what)]) hx hb dX7_worst_87 hl (k := 1) rfl (nI_add k_6 1) (by decide) rfl (fun ls hl => ?_)
                  refine lv_goto (tgt := 35) hx hb dX7_worst_90 (by decide) ?_
                  exact ih_6 (k_6 + 1) (s_6.1, s_6.2.1, t_8.2) hlt_6 (by omega) (zf_s hst_6 (by rw [mf_worst_B35, if_neg c_7, zlet_eq ht_8, if_neg c_9])) H locs hP hD hS ls (lv_sub hl [0, 2, 3, 4, 5, 6] rfl)
              · refine lv_goto (tgt := 87) hx hb dX7_worst_56 (by decide) ?_
                refine lv_iinc (v := nI (k_6 + 1)) (lv' := [(5, .int (nI (k_6 + 1))), (4, .int s_6.1), (3, .int s_6.2.1), (0, .ref (ad 0)), (1, .int (nI nights.toNatClampNeg)), (2, .int what)]) hx hb dX7_worst_87 hl (k := 0) rfl (nI_add k_6 1) (by decide) rfl (fun ls hl => ?_)
                refine lv_goto (tgt := 35) hx hb dX7_worst_90 (by decide) ?_
                exact ih_6 (k_6 + 1) (s_6.1, s_6.2.1, s_6.2.2) hlt_6 (by omega) (zf_s hst_6 (by rw [mf_worst_B35, if_pos c_7])) H locs hP hD hS ls (lv_sub hl [0, 1, 2, 3, 4, 5] rfl)
        exact hlp_6 ((Wd * R) + 1) 0 ((-1), (-1), m_beside) (Nat.zero_le _) (by omega) rfl H locs hP hD hS ls (lv_sub hl [0, 1, 2, 3, 4, 5] rfl)
      · refine lv_aload_n hx hb dX7_worst_21 rfl (lv_at hl 0 rfl) ?_
        refine lv_iconst (v := 1) hx hb dX7_worst_22 (by decide) ?_
        refine zr_muV (F := ()) (ff := fun _ => True) (rr := fun _ => some (.int (-1))) (w1 := fun _ => (mW G ad 1 m_top m_bottom m_taped m_size m_token m_from m_end m_value m_faultKind m_faultPlace m_faults m_seen m_depth m_counted m_lead m_round m_tried m_triedMany m_drawn m_ranSteps m_isTold m_marks m_at m_names m_sort m_trayMany m_trays m_tape m_text m_opened m_beside m_then m_ways m_further m_canBe m_loops m_ran m_told0)) ⟨hx, hb, hml, hown, hts⟩ (mt_mf_refuse l G ad m_status m_top m_bottom m_taped m_size m_token m_from m_end m_value m_faultKind m_faultPlace m_faults m_seen m_depth m_counted m_lead m_round m_tried m_triedMany m_drawn m_ranSteps m_isTold m_marks m_at m_names m_sort m_trayMany m_trays m_tape m_text m_opened m_beside m_then m_ways m_further m_canBe m_loops m_ran m_told0 1 H.size) (cwV 1 hts (lw_V q1666 q1668 qs66 q144 q1669) rfl rfl rfl hd_X7_refuse ⟨(Nat.le_of_ble_eq_true rfl), (Nat.le_of_ble_eq_true rfl)⟩) hP hD hS hA hK hE 0 7 rfl rfl rfl hl.1 rfl (Nat.le_of_ble_eq_true rfl) dX7_worst_23 ⟨Nat.le_refl _, Nat.le_refl _⟩ (fun _ _ _ H locs hP hD hS _ => ?_)
        refine W.eq (g2 := F0 m 26 ls [.int (-1)]) rfl ?_
        have e_ : mf_worst m_at m_beside Wd R nights what = ((-1), 1, m_beside) := by rw [mf_worst, if_pos c_1, if_neg c_3, if_neg c_5]
        exact zr_mi hx hb hr hlocks hP hD hS dX7_worst_26 (by rw [e_])  (by rw [e_]) trivial
def mf_mend_B92 (m_at : Nat → Int32) (Wd : Nat) (R : Nat) (pic : Int64) (t_6 : (Nat → Int32)) (k_7 : Nat) (s_8 : Nat × Nat × Nat × Int32) : (Nat × Nat × Nat × Int32) ⊕ (Nat × Nat × Nat × Int32) :=
  (if (Wd * R) ≤ s_8.1 then
    .inr (s_8.1, s_8.2.1, s_8.2.2.1, s_8.2.2.2)
  else
    (if ((((1 : Int32) <<< ((nI k_7) &&& 31)) ||| ((1 : Int32) <<< ((nI s_8.1) &&& 31))) &&& ((mf_free m_at) ^^^ (-1))) = 0 then
      (if (zpc ((mf_becomes m_at t_6 Wd R ((m_at 3) ^^^ (((1 : Int32) <<< ((nI k_7) &&& 31)) ||| ((1 : Int32) <<< ((nI s_8.1) &&& 31)))) (m_at 10)) ^^^ (pic.toInt32 &&& (mf_whole Wd R)))) < s_8.2.2.1 then
        .inl (s_8.1 + 1, zpc (((1 : Int32) <<< ((nI k_7) &&& 31)) ||| ((1 : Int32) <<< ((nI s_8.1) &&& 31))), zpc ((mf_becomes m_at t_6 Wd R ((m_at 3) ^^^ (((1 : Int32) <<< ((nI k_7) &&& 31)) ||| ((1 : Int32) <<< ((nI s_8.1) &&& 31)))) (m_at 10)) ^^^ (pic.toInt32 &&& (mf_whole Wd R))), ((1 : Int32) <<< ((nI k_7) &&& 31)) ||| ((1 : Int32) <<< ((nI s_8.1) &&& 31)))
      else
        (if (zpc ((mf_becomes m_at t_6 Wd R ((m_at 3) ^^^ (((1 : Int32) <<< ((nI k_7) &&& 31)) ||| ((1 : Int32) <<< ((nI s_8.1) &&& 31)))) (m_at 10)) ^^^ (pic.toInt32 &&& (mf_whole Wd R)))) = s_8.2.2.1 then
          (if (zpc (((1 : Int32) <<< ((nI k_7) &&& 31)) ||| ((1 : Int32) <<< ((nI s_8.1) &&& 31)))) < s_8.2.1 then
            .inl (s_8.1 + 1, zpc (((1 : Int32) <<< ((nI k_7) &&& 31)) ||| ((1 : Int32) <<< ((nI s_8.1) &&& 31))), zpc ((mf_becomes m_at t_6 Wd R ((m_at 3) ^^^ (((1 : Int32) <<< ((nI k_7) &&& 31)) ||| ((1 : Int32) <<< ((nI s_8.1) &&& 31)))) (m_at 10)) ^^^ (pic.toInt32 &&& (mf_whole Wd R))), ((1 : Int32) <<< ((nI k_7) &&& 31)) ||| ((1 : Int32) <<< ((nI s_8.1) &&& 31)))
          else
            (if (zpc (((1 : Int32) <<< ((nI k_7) &&& 31)) ||| ((1 : Int32) <<< ((nI s_8.1) &&& 31)))) = s_8.2.1 then
              (if s_8.2.2.2 ≤ (((1 : Int32) <<< ((nI k_7) &&& 31)) ||| ((1 : Int32) <<< ((nI s_8.1) &&& 31))) then
                .inl (s_8.1 + 1, s_8.2.1, s_8.2.2.1, s_8.2.2.2)
              else
                .inl (s_8.1 + 1, zpc (((1 : Int32) <<< ((nI k_7) &&& 31)) ||| ((1 : Int32) <<< ((nI s_8.1) &&& 31))), zpc ((mf_becomes m_at t_6 Wd R ((m_at 3) ^^^ (((1 : Int32) <<< ((nI k_7) &&& 31)) ||| ((1 : Int32) <<< ((nI s_8.1) &&& 31)))) (m_at 10)) ^^^ (pic.toInt32 &&& (mf_whole Wd R))), ((1 : Int32) <<< ((nI k_7) &&& 31)) ||| ((1 : Int32) <<< ((nI s_8.1) &&& 31))))
            else
              .inl (s_8.1 + 1, s_8.2.1, s_8.2.2.1, s_8.2.2.2)))
        else
          .inl (s_8.1 + 1, s_8.2.1, s_8.2.2.1, s_8.2.2.2)))
    else
      .inl (s_8.1 + 1, s_8.2.1, s_8.2.2.1, s_8.2.2.2)))
def mf_mend_L92 (m_at : Nat → Int32) (Wd : Nat) (R : Nat) (pic : Int64) (t_6 : (Nat → Int32)) (k_7 : Nat) (s_8 : Nat × Nat × Nat × Int32) : Nat × Nat × Nat × Int32 := zw (mf_mend_B92 m_at Wd R pic t_6 k_7) (s_8) ((Wd * R - s_8.1) + 1) s_8
def mf_mend_B79 (m_at : Nat → Int32) (Wd : Nat) (R : Nat) (pic : Int64) (t_6 : (Nat → Int32)) (k_7 : Nat) (s_7 : Nat × Nat × Int32) : Nat × Nat × Int32 :=
  zlet (mf_mend_L92 m_at Wd R pic t_6 k_7 (k_7, s_7.1, s_7.2.1, s_7.2.2)) (fun t_8 =>
  (t_8.2.1, t_8.2.2.1, t_8.2.2.2))
def mf_mend_L79 (m_at : Nat → Int32) (Wd : Nat) (R : Nat) (pic : Int64) (t_6 : (Nat → Int32)) (s_7 : Nat × Nat × Int32) : Nat × Nat × Int32 := zf (mf_mend_B79 m_at Wd R pic t_6) s_7 (Wd * R)
def mf_mend (m_at : Nat → Int32) (m_beside : Nat → Int32) (Wd : Nat) (R : Nat) (pic : Int64) (what : Int32) : Int32 × Int32 × (Nat → Int32) :=
  (if (mf_isFrom pic 0 1073741823) = true then
    (if what < 0 then
      ((-1), 1, m_beside)
    else
      (if what ≤ 1 then
        zlet (mf_laysNear m_at m_beside Wd R) (fun t_6 =>
        zlet (mf_mend_L79 m_at Wd R pic t_6 (0, zpc ((mf_becomes m_at t_6 Wd R (m_at 3) (m_at 10)) ^^^ (pic.toInt32 &&& (mf_whole Wd R))), 0)) (fun s_7 =>
        (if what = 0 then
          (nI s_7.2.1, 0, t_6)
        else
          (s_7.2.2, 0, t_6))))
      else
        ((-1), 1, m_beside)))
  else
    ((-1), 1, m_beside))
theorem hd_X7_mend : yX7_mend.cls = RX7 ∧ yX7_mend.cls ≠ "java/lang/invoke/MethodHandle" ∧ yX7_mend.cls ≠ "java/lang/invoke/VarHandle" ∧ (parseMethodDescriptor yX7_mend.desc).map (fun d => d.parameters.length) = some 2 := by decide +kernel
set_option maxHeartbeats 4000000 in
set_option maxRecDepth 100000 in
theorem mt_mf_mend (l : Launch) (G : zG) (ad : Nat → Nat) (m_status : Int32) (m_top : Int64) (m_bottom : Int64) (m_taped : Int32) (m_size : Int32) (m_token : Int32) (m_from : Int32) (m_end : Int32) (m_value : Int32) (m_faultKind : Int32) (m_faultPlace : Int32) (m_faults : Int32) (m_seen : Int32) (m_depth : Int32) (m_counted : Int32) (m_lead : Int32) (m_round : Int32) (m_tried : Int32) (m_triedMany : Int32) (m_drawn : Int32) (m_ranSteps : Int32) (m_isTold : Bool) (m_marks : Int32) (m_at : Nat → Int32) (m_names : Nat → Int64) (m_sort : Nat → Int32) (m_trayMany : Nat → Int32) (m_trays : Nat → Int64) (m_tape : Nat → Int32) (m_text : Nat → Int32) (m_opened : Nat → Int32) (m_beside : Nat → Int32) (m_then : Nat → Int32) (m_ways : Nat → Int64) (m_further : Nat → Int64) (m_canBe : Nat → Int32) (m_loops : Nat → Int32) (m_ran : Nat → Int32) (m_told0 : Nat → Int32) (Wd : Nat) (R : Nat) (nr : Nat) (nc : Nat) (pic : Int64) (what : Int32) (hG : mOK m_at Wd R nr nc) (sz : Nat) : Met l yX7_mend (ws_ yX7_mend cX7_mend 14 (some .int)) (zR 4 0 0) (zPm G sz [.ref (ad 0), .long pic, .int what] (mW G ad m_status m_top m_bottom m_taped m_size m_token m_from m_end m_value m_faultKind m_faultPlace m_faults m_seen m_depth m_counted m_lead m_round m_tried m_triedMany m_drawn m_ranSteps m_isTold m_marks m_at m_names m_sort m_trayMany m_trays m_tape m_text m_opened m_beside m_then m_ways m_further m_canBe m_loops m_ran m_told0)) (zQm G (True) (some (.int ((mf_mend m_at m_beside Wd R pic what).1))) (mW G ad ((mf_mend m_at m_beside Wd R pic what).2.1) m_top m_bottom m_taped m_size m_token m_from m_end m_value m_faultKind m_faultPlace m_faults m_seen m_depth m_counted m_lead m_round m_tried m_triedMany m_drawn m_ranSteps m_isTold m_marks m_at m_names m_sort m_trayMany m_trays m_tape m_text m_opened ((mf_mend m_at m_beside Wd R pic what).2.2) m_then m_ways m_further m_canBe m_loops m_ran m_told0) (va_A (mW G ad m_status m_top m_bottom m_taped m_size m_token m_from m_end m_value m_faultKind m_faultPlace m_faults m_seen m_depth m_counted m_lead m_round m_tried m_triedMany m_drawn m_ranSteps m_isTold m_marks m_at m_names m_sort m_trayMany m_trays m_tape m_text m_opened m_beside m_then m_ways m_further m_canBe m_loops m_ran m_told0) sz)) 0 0 (va_A (mW G ad m_status m_top m_bottom m_taped m_size m_token m_from m_end m_value m_faultKind m_faultPlace m_faults m_seen m_depth m_counted m_lead m_round m_tried m_triedMany m_drawn m_ranSteps m_isTold m_marks m_at m_names m_sort m_trayMany m_trays m_tape m_text m_opened m_beside m_then m_ways m_further m_canBe m_loops m_ran m_told0) sz) := by
  refine zr_entM (by decide) (Nat.le_of_ble_eq_true rfl) ?_
  intro p e s m below meth c ⟨hx, hb, hr, hml, hown, hts, hlocks, hnm⟩ ls hl hP hK A hE hA hD hS
  have hown : s.vm.findClass RX7 = some m.cls := hown
  have hl : lv_has ls 14 [(0, .ref (ad 0)), (1, .long pic), (3, .int what)] := hl
  obtain ⟨H, hH⟩ : ∃ H, H = s.heap := ⟨_, rfl⟩
  obtain ⟨locs, hlo⟩ : ∃ L : List Loc, L = [] := ⟨_, rfl⟩
  rw [← hH] at hP
  have hS : va_S A s.heap H locs := by rw [hH, hlo]; exact va_S.rf
  have hgo : W p l e (zR 4 0 0) s m ([.ref (ad 0), .long pic, .int what] : List Value).toArray below meth c H locs 0 0 (MQ below (zQm G (True) (some (.int ((mf_mend m_at m_beside Wd R pic what).1))) (mW G ad ((mf_mend m_at m_beside Wd R pic what).2.1) m_top m_bottom m_taped m_size m_token m_from m_end m_value m_faultKind m_faultPlace m_faults m_seen m_depth m_counted m_lead m_round m_tried m_triedMany m_drawn m_ranSteps m_isTold m_marks m_at m_names m_sort m_trayMany m_trays m_tape m_text m_opened ((mf_mend m_at m_beside Wd R pic what).2.2) m_then m_ways m_further m_canBe m_loops m_ran m_told0) A) ([.ref (ad 0), .long pic, .int what] : List Value).toArray s 0 0 A) (F0 m 0 ls []) := ?_
  · rw [hH, hlo] at hgo; exact hgo
  clear hH hlo
  have hWR := mOK_WR hG
  have hW0 := mOK_W0 hG
  have hW5 := mOK_W5 hG
  have hR0 := mOK_R0 hG
  have hR6 := mOK_R6 hG
  have hn4 := mOK_n4 hG
  have hc6 := mOK_c6 hG
  refine lv_lload_n hx hb dX7_mend_0 rfl (lv_at hl 1 rfl) ?_
  refine lv_lconst (v := 0) hx hb dX7_mend_1 rfl ?_
  refine lv_ldc2 (v := 1073741823) hx hb hown (hts _ q1847) dX7_mend_2 ?_
  refine zr_puS ⟨hx, hb, hml, hown, hts⟩ (mt_mf_isFrom l pic 0 1073741823) (va_cwS 3 hts (lw_S q1848 q1849 q144 q1850) rfl rfl rfl hd_X7_isFrom.2 ⟨(Nat.le_of_ble_eq_true rfl), (Nat.le_of_ble_eq_true rfl)⟩) rfl hl.1 rfl (Nat.le_of_ble_eq_true rfl) dX7_mend_5 ⟨Nat.le_refl _, Nat.le_refl _⟩ ?_
  refine zr_eqB (mf_isFrom pic 0 1073741823) (tgt := 20) hx hb dX7_mend_8 (by decide) (fun c_1 => ?_) (fun c_1 => ?_)
  · refine lv_aload_n hx hb dX7_mend_20 rfl (lv_at hl 0 rfl) ?_
    refine lv_iconst (v := 1) hx hb dX7_mend_21 (by decide) ?_
    refine zr_muV (F := ()) (ff := fun _ => True) (rr := fun _ => some (.int (-1))) (w1 := fun _ => (mW G ad 1 m_top m_bottom m_taped m_size m_token m_from m_end m_value m_faultKind m_faultPlace m_faults m_seen m_depth m_counted m_lead m_round m_tried m_triedMany m_drawn m_ranSteps m_isTold m_marks m_at m_names m_sort m_trayMany m_trays m_tape m_text m_opened m_beside m_then m_ways m_further m_canBe m_loops m_ran m_told0)) ⟨hx, hb, hml, hown, hts⟩ (mt_mf_refuse l G ad m_status m_top m_bottom m_taped m_size m_token m_from m_end m_value m_faultKind m_faultPlace m_faults m_seen m_depth m_counted m_lead m_round m_tried m_triedMany m_drawn m_ranSteps m_isTold m_marks m_at m_names m_sort m_trayMany m_trays m_tape m_text m_opened m_beside m_then m_ways m_further m_canBe m_loops m_ran m_told0 1 H.size) (cwV 1 hts (lw_V q1666 q1668 qs66 q144 q1669) rfl rfl rfl hd_X7_refuse ⟨(Nat.le_of_ble_eq_true rfl), (Nat.le_of_ble_eq_true rfl)⟩) hP hD hS hA hK hE 0 7 rfl rfl rfl hl.1 rfl (Nat.le_of_ble_eq_true rfl) dX7_mend_22 ⟨Nat.le_refl _, Nat.le_refl _⟩ (fun _ _ _ H locs hP hD hS _ => ?_)
    refine W.eq (g2 := F0 m 25 ls [.int (-1)]) rfl ?_
    have e_ : mf_mend m_at m_beside Wd R pic what = ((-1), 1, m_beside) := by rw [mf_mend, if_neg c_1]
    exact zr_mi hx hb hr hlocks hP hD hS dX7_mend_25 (by rw [e_])  (by rw [e_]) trivial
  · refine lv_iload_n hx hb dX7_mend_11 rfl (lv_at hl 2 rfl) ?_
    refine lv_if_lt (tgt := 20) hx hb dX7_mend_12 (by decide) (fun c_3 => ?_) (fun c_3 => ?_)
    · refine lv_aload_n hx hb dX7_mend_20 rfl (lv_at hl 0 rfl) ?_
      refine lv_iconst (v := 1) hx hb dX7_mend_21 (by decide) ?_
      refine zr_muV (F := ()) (ff := fun _ => True) (rr := fun _ => some (.int (-1))) (w1 := fun _ => (mW G ad 1 m_top m_bottom m_taped m_size m_token m_from m_end m_value m_faultKind m_faultPlace m_faults m_seen m_depth m_counted m_lead m_round m_tried m_triedMany m_drawn m_ranSteps m_isTold m_marks m_at m_names m_sort m_trayMany m_trays m_tape m_text m_opened m_beside m_then m_ways m_further m_canBe m_loops m_ran m_told0)) ⟨hx, hb, hml, hown, hts⟩ (mt_mf_refuse l G ad m_status m_top m_bottom m_taped m_size m_token m_from m_end m_value m_faultKind m_faultPlace m_faults m_seen m_depth m_counted m_lead m_round m_tried m_triedMany m_drawn m_ranSteps m_isTold m_marks m_at m_names m_sort m_trayMany m_trays m_tape m_text m_opened m_beside m_then m_ways m_further m_canBe m_loops m_ran m_told0 1 H.size) (cwV 1 hts (lw_V q1666 q1668 qs66 q144 q1669) rfl rfl rfl hd_X7_refuse ⟨(Nat.le_of_ble_eq_true rfl), (Nat.le_of_ble_eq_true rfl)⟩) hP hD hS hA hK hE 0 7 rfl rfl rfl hl.1 rfl (Nat.le_of_ble_eq_true rfl) dX7_mend_22 ⟨Nat.le_refl _, Nat.le_refl _⟩ (fun _ _ _ H locs hP hD hS _ => ?_)
      refine W.eq (g2 := F0 m 25 ls [.int (-1)]) rfl ?_
      have e_ : mf_mend m_at m_beside Wd R pic what = ((-1), 1, m_beside) := by rw [mf_mend, if_pos c_1, if_pos c_3]
      exact zr_mi hx hb hr hlocks hP hD hS dX7_mend_25 (by rw [e_])  (by rw [e_]) trivial
    · refine lv_iload_n hx hb dX7_mend_15 rfl (lv_at hl 2 rfl) ?_
      refine lv_iconst (v := 1) hx hb dX7_mend_16 (by decide) ?_
      refine lv_icmp_le (tgt := 26) hx hb dX7_mend_17 (by decide) (fun c_5 => ?_) (fun c_5 => ?_)
      · refine lv_aload_n hx hb dX7_mend_26 rfl (lv_at hl 0 rfl) ?_
        refine zr_muV (F := mf_laysNear m_at m_beside Wd R) (ff := fun t_6 => True) (rr := fun t_6 => none) (w1 := fun t_6 => (mW G ad m_status m_top m_bottom m_taped m_size m_token m_from m_end m_value m_faultKind m_faultPlace m_faults m_seen m_depth m_counted m_lead m_round m_tried m_triedMany m_drawn m_ranSteps m_isTold m_marks m_at m_names m_sort m_trayMany m_trays m_tape m_text m_opened t_6 m_then m_ways m_further m_canBe m_loops m_ran m_told0)) ⟨hx, hb, hml, hown, hts⟩ (mt_mf_laysNear l G ad m_status m_top m_bottom m_taped m_size m_token m_from m_end m_value m_faultKind m_faultPlace m_faults m_seen m_depth m_counted m_lead m_round m_tried m_triedMany m_drawn m_ranSteps m_isTold m_marks m_at m_names m_sort m_trayMany m_trays m_tape m_text m_opened m_beside m_then m_ways m_further m_canBe m_loops m_ran m_told0 Wd R nr nc hG H.size) (cwV 0 hts (lw_V q1889 q1891 qs105 q144 q1892) rfl rfl rfl hd_X7_laysNear ⟨(Nat.le_of_ble_eq_true rfl), (Nat.le_of_ble_eq_true rfl)⟩) hP hD hS hA hK hE 0 7 rfl rfl rfl hl.1 rfl (Nat.le_of_ble_eq_true rfl) dX7_mend_27 ⟨Nat.le_refl _, Nat.le_refl _⟩ (fun t_6 ht_6 hft_6 H locs hP hD hS _ => ?_)
        refine W.eq (g2 := F0 m 30 ls []) rfl ?_
        refine lv_lload_n hx hb dX7_mend_30 rfl (lv_at hl 1 rfl) ?_
        refine lv_l2i hx hb dX7_mend_31 rfl ?_
        refine lv_aload_n hx hb dX7_mend_32 rfl (lv_at hl 0 rfl) ?_
        refine zr_obV ⟨hx, hb, hml, hown, hts⟩ (mt_mf_whole l G ad m_status m_top m_bottom m_taped m_size m_token m_from m_end m_value m_faultKind m_faultPlace m_faults m_seen m_depth m_counted m_lead m_round m_tried m_triedMany m_drawn m_ranSteps m_isTold m_marks m_at m_names m_sort m_trayMany m_trays m_tape m_text m_opened t_6 m_then m_ways m_further m_canBe m_loops m_ran m_told0 Wd R nr nc hG) (cwV 0 hts (lw_V q2017 q2019 qs119 q144 q2020) rfl rfl rfl hd_X7_whole ⟨(Nat.le_of_ble_eq_true rfl), (Nat.le_of_ble_eq_true rfl)⟩) hP hK (zE_o hE hS) 0 7 rfl rfl rfl hl.1 rfl (Nat.le_of_ble_eq_true rfl) dX7_mend_33 ⟨Nat.le_refl _, Nat.le_refl _⟩ ?_
        refine lv_iand hx hb dX7_mend_36 ?_
        refine lv_istore (lv' := [(4, .int (pic.toInt32 &&& (mf_whole Wd R))), (0, .ref (ad 0)), (1, .long pic), (3, .int what)]) hx hb dX7_mend_37 hl (by decide) rfl (fun ls hl => ?_)
        refine lv_aload_n hx hb dX7_mend_39 rfl (lv_at hl 1 rfl) ?_
        refine zr_obV ⟨hx, hb, hml, hown, hts⟩ (mt_mf_free l G ad m_status m_top m_bottom m_taped m_size m_token m_from m_end m_value m_faultKind m_faultPlace m_faults m_seen m_depth m_counted m_lead m_round m_tried m_triedMany m_drawn m_ranSteps m_isTold m_marks m_at m_names m_sort m_trayMany m_trays m_tape m_text m_opened t_6 m_then m_ways m_further m_canBe m_loops m_ran m_told0) (cwV 0 hts (lw_V q1855 q1857 qs102 q144 q1858) rfl rfl rfl hd_X7_free ⟨(Nat.le_of_ble_eq_true rfl), (Nat.le_of_ble_eq_true rfl)⟩) hP hK (zE_o hE hS) 0 7 rfl rfl rfl hl.1 rfl (Nat.le_of_ble_eq_true rfl) dX7_mend_40 ⟨Nat.le_refl _, Nat.le_refl _⟩ ?_
        refine lv_istore (lv' := [(5, .int (mf_free m_at)), (4, .int (pic.toInt32 &&& (mf_whole Wd R))), (0, .ref (ad 0)), (1, .long pic), (3, .int what)]) hx hb dX7_mend_43 hl (by decide) rfl (fun ls hl => ?_)
        refine lv_iconst (v := 0) hx hb dX7_mend_45 (by decide) ?_
        refine lv_istore (lv' := [(6, .int 0), (5, .int (mf_free m_at)), (4, .int (pic.toInt32 &&& (mf_whole Wd R))), (0, .ref (ad 0)), (1, .long pic), (3, .int what)]) hx hb dX7_mend_46 hl (by decide) rfl (fun ls hl => ?_)
        refine lv_aload_n hx hb dX7_mend_48 rfl (lv_at hl 3 rfl) ?_
        refine lv_aload_n hx hb dX7_mend_49 rfl (lv_at hl 3 rfl) ?_
        refine va_get (D := G.1) (ci := 7) (v := .ref (ad 1)) (C := RX7) (T := TX7) (N := 39) hx hb hts in_X7 hown hK.1 hP 0 rfl rfl 0 (Nat.le_of_ble_eq_true rfl) (hts _ q1467) (fun _ h => h) rfl dX7_mend_50 ?_
        refine lv_iconst (v := 3) hx hb dX7_mend_53 (by decide) ?_
        refine zr_iald 3 (v := m_at 3) hx hb hK hP 1 rfl rfl (Nat.le_of_ble_eq_true rfl) rfl (by decide) rfl dX7_mend_54 ?_
        refine lv_aload_n hx hb dX7_mend_55 rfl (lv_at hl 3 rfl) ?_
        refine va_get (D := G.1) (ci := 7) (v := .ref (ad 1)) (C := RX7) (T := TX7) (N := 39) hx hb hts in_X7 hown hK.1 hP 0 rfl rfl 0 (Nat.le_of_ble_eq_true rfl) (hts _ q1467) (fun _ h => h) rfl dX7_mend_56 ?_
        refine lv_bipush (v := 10) hx hb dX7_mend_59 (by decide) ?_
        refine zr_iald 10 (v := m_at 10) hx hb hK hP 1 rfl rfl (Nat.le_of_ble_eq_true rfl) rfl (by decide) rfl dX7_mend_61 ?_
        refine zr_obV ⟨hx, hb, hml, hown, hts⟩ (mt_mf_becomes l G ad m_status m_top m_bottom m_taped m_size m_token m_from m_end m_value m_faultKind m_faultPlace m_faults m_seen m_depth m_counted m_lead m_round m_tried m_triedMany m_drawn m_ranSteps m_isTold m_marks m_at m_names m_sort m_trayMany m_trays m_tape m_text m_opened t_6 m_then m_ways m_further m_canBe m_loops m_ran m_told0 Wd R nr nc (m_at 3) (m_at 10) hG (mOK_by hG)) (cwV 2 hts (lw_V q1893 q1895 qs106 q144 q1896) rfl rfl rfl hd_X7_becomes ⟨(Nat.le_of_ble_eq_true rfl), (Nat.le_of_ble_eq_true rfl)⟩) hP hK (zE_o hE hS) 0 7 rfl rfl rfl hl.1 rfl (Nat.le_of_ble_eq_true rfl) dX7_mend_62 ⟨Nat.le_refl _, Nat.le_refl _⟩ ?_
        refine lv_iload hx hb dX7_mend_65 (lv_at hl 2 rfl) ?_
        refine lv_ixor hx hb dX7_mend_67 ?_
        refine zr_puS ⟨hx, hb, hml, hown, hts⟩ (mt_bitsN l ((mf_becomes m_at t_6 Wd R (m_at 3) (m_at 10)) ^^^ (pic.toInt32 &&& (mf_whole Wd R)))) (va_cwS 1 hts (lw_S q1744 q1745 q144 q1746) rfl rfl rfl hd_X7_bits.2 ⟨(Nat.le_of_ble_eq_true rfl), (Nat.le_of_ble_eq_true rfl)⟩) rfl hl.1 rfl (Nat.le_of_ble_eq_true rfl) dX7_mend_68 ⟨Nat.le_refl _, Nat.le_refl _⟩ ?_
        have hbl_0 : (zpc ((mf_becomes m_at t_6 Wd R (m_at 3) (m_at 10)) ^^^ (pic.toInt32 &&& (mf_whole Wd R)))) ≤ 32 := zpc_le _
        refine lv_istore (lv' := [(7, .int (nI (zpc ((mf_becomes m_at t_6 Wd R (m_at 3) (m_at 10)) ^^^ (pic.toInt32 &&& (mf_whole Wd R)))))), (6, .int 0), (5, .int (mf_free m_at)), (4, .int (pic.toInt32 &&& (mf_whole Wd R))), (0, .ref (ad 0)), (1, .long pic), (3, .int what)]) hx hb dX7_mend_71 hl (by decide) rfl (fun ls hl => ?_)
        refine lv_iconst (v := 0) hx hb dX7_mend_73 (by decide) ?_
        refine lv_istore (lv' := [(8, .int 0), (7, .int (nI (zpc ((mf_becomes m_at t_6 Wd R (m_at 3) (m_at 10)) ^^^ (pic.toInt32 &&& (mf_whole Wd R)))))), (6, .int 0), (5, .int (mf_free m_at)), (4, .int (pic.toInt32 &&& (mf_whole Wd R))), (0, .ref (ad 0)), (1, .long pic), (3, .int what)]) hx hb dX7_mend_74 hl (by decide) rfl (fun ls hl => ?_)
        refine lv_iconst (v := 0) hx hb dX7_mend_76 (by decide) ?_
        refine lv_istore (lv' := [(9, .int 0), (8, .int 0), (7, .int (nI (zpc ((mf_becomes m_at t_6 Wd R (m_at 3) (m_at 10)) ^^^ (pic.toInt32 &&& (mf_whole Wd R)))))), (6, .int 0), (5, .int (mf_free m_at)), (4, .int (pic.toInt32 &&& (mf_whole Wd R))), (0, .ref (ad 0)), (1, .long pic), (3, .int what)]) hx hb dX7_mend_77 hl (by decide) rfl (fun ls hl => ?_)
        have hlp_7 : ∀ (n k_7 : Nat) (s_7 : Nat × Nat × Int32), k_7 ≤ Wd * R → Wd * R < k_7 + n → zf (mf_mend_B79 m_at Wd R pic t_6) (0, zpc ((mf_becomes m_at t_6 Wd R (m_at 3) (m_at 10)) ^^^ (pic.toInt32 &&& (mf_whole Wd R))), 0) k_7 = s_7 → s_7.2.1 ≤ 32 → s_7.1 ≤ 32 → ∀ (H : Heap) (locs : List Loc), va_P G.1 zcl (mW G ad m_status m_top m_bottom m_taped m_size m_token m_from m_end m_value m_faultKind m_faultPlace m_faults m_seen m_depth m_counted m_lead m_round m_tried m_triedMany m_drawn m_ranSteps m_isTold m_marks m_at m_names m_sort m_trayMany m_trays m_tape m_text m_opened t_6 m_then m_ways m_further m_canBe m_loops m_ran m_told0) H → va_D A (mW G ad m_status m_top m_bottom m_taped m_size m_token m_from m_end m_value m_faultKind m_faultPlace m_faults m_seen m_depth m_counted m_lead m_round m_tried m_triedMany m_drawn m_ranSteps m_isTold m_marks m_at m_names m_sort m_trayMany m_trays m_tape m_text m_opened t_6 m_then m_ways m_further m_canBe m_loops m_ran m_told0) → va_S A s.heap H locs → ∀ ls : Array Slot, lv_has ls 14 [(9, .int (nI k_7)), (8, .int (nI s_7.1)), (7, .int (nI s_7.2.1)), (6, .int s_7.2.2), (5, .int (mf_free m_at)), (4, .int (pic.toInt32 &&& (mf_whole Wd R))), (0, .ref (ad 0)), (3, .int what)] → W p l e (zR 4 0 0) s m ([.ref (ad 0), .long pic, .int what] : List Value).toArray below meth c H locs 0 0 (MQ below (zQm G (True) (some (.int ((mf_mend m_at m_beside Wd R pic what).1))) (mW G ad ((mf_mend m_at m_beside Wd R pic what).2.1) m_top m_bottom m_taped m_size m_token m_from m_end m_value m_faultKind m_faultPlace m_faults m_seen m_depth m_counted m_lead m_round m_tried m_triedMany m_drawn m_ranSteps m_isTold m_marks m_at m_names m_sort m_trayMany m_trays m_tape m_text m_opened ((mf_mend m_at m_beside Wd R pic what).2.2) m_then m_ways m_further m_canBe m_loops m_ran m_told0) A) ([.ref (ad 0), .long pic, .int what] : List Value).toArray s 0 0 A) (F0 m 79 ls []) := by
          intro n
          induction n with
          | zero => intro k_7 s_7 h1 h2; exact absurd h2 (by omega)
          | succ n ih_7 =>
            intro k_7 s_7 hk_7 hn_7 hst_7 hi7 hi8 H locs hP hD hS ls hl
            refine lv_iload hx hb dX7_mend_79 (lv_at hl 0 rfl) ?_
            refine lv_aload_n hx hb dX7_mend_81 rfl (lv_at hl 6 rfl) ?_
            refine zr_obV ⟨hx, hb, hml, hown, hts⟩ (mt_mf_places l G ad m_status m_top m_bottom m_taped m_size m_token m_from m_end m_value m_faultKind m_faultPlace m_faults m_seen m_depth m_counted m_lead m_round m_tried m_triedMany m_drawn m_ranSteps m_isTold m_marks m_at m_names m_sort m_trayMany m_trays m_tape m_text m_opened t_6 m_then m_ways m_further m_canBe m_loops m_ran m_told0 Wd R nr nc hG) (cwV 0 hts (lw_V q1815 q1817 qs97 q144 q1818) rfl rfl rfl hd_X7_places ⟨(Nat.le_of_ble_eq_true rfl), (Nat.le_of_ble_eq_true rfl)⟩) hP hK (zE_o hE hS) 0 7 rfl rfl rfl hl.1 rfl (Nat.le_of_ble_eq_true rfl) dX7_mend_82 ⟨Nat.le_refl _, Nat.le_refl _⟩ ?_
            refine zr_ge k_7 (Wd * R) (by omega) (by omega) (tgt := 236) hx hb dX7_mend_85 (by decide) (fun c_7 => ?_) (fun c_7 => ?_)
            · have ek_7 : k_7 = Wd * R := Nat.le_antisymm hk_7 c_7
              have hs_7 : mf_mend_L79 m_at Wd R pic t_6 (0, zpc ((mf_becomes m_at t_6 Wd R (m_at 3) (m_at 10)) ^^^ (pic.toInt32 &&& (mf_whole Wd R))), 0) = s_7 := by rw [ek_7] at hst_7; exact hst_7
              have hl := lv_sub hl (l' := _) [1, 2, 3, 4, 5, 6, 7] rfl
              refine lv_aload_n hx hb dX7_mend_236 rfl (lv_at hl 5 rfl) ?_
              refine lv_iload_n hx hb dX7_mend_237 rfl (lv_at hl 6 rfl) ?_
              refine lv_if_ne (tgt := 246) hx hb dX7_mend_238 (by decide) (fun c_16 => ?_) (fun c_16 => ?_)
              · refine lv_iload hx hb dX7_mend_246 (lv_at hl 2 rfl) ?_
                refine zr_muV (F := ()) (ff := fun _ => True) (rr := fun _ => some (.int s_7.2.2)) (w1 := fun _ => (mW G ad 0 m_top m_bottom m_taped m_size m_token m_from m_end m_value m_faultKind m_faultPlace m_faults m_seen m_depth m_counted m_lead m_round m_tried m_triedMany m_drawn m_ranSteps m_isTold m_marks m_at m_names m_sort m_trayMany m_trays m_tape m_text m_opened t_6 m_then m_ways m_further m_canBe m_loops m_ran m_told0)) ⟨hx, hb, hml, hown, hts⟩ (mt_mf_gives l G ad m_status m_top m_bottom m_taped m_size m_token m_from m_end m_value m_faultKind m_faultPlace m_faults m_seen m_depth m_counted m_lead m_round m_tried m_triedMany m_drawn m_ranSteps m_isTold m_marks m_at m_names m_sort m_trayMany m_trays m_tape m_text m_opened t_6 m_then m_ways m_further m_canBe m_loops m_ran m_told0 s_7.2.2 H.size) (cwV 1 hts (lw_V q1751 q1753 qs85 q144 q1754) rfl rfl rfl hd_X7_gives ⟨(Nat.le_of_ble_eq_true rfl), (Nat.le_of_ble_eq_true rfl)⟩) hP hD hS hA hK hE 0 7 rfl rfl rfl hl.1 rfl (Nat.le_of_ble_eq_true rfl) dX7_mend_248 ⟨Nat.le_refl _, Nat.le_refl _⟩ (fun _ _ _ H locs hP hD hS _ => ?_)
                refine W.eq (g2 := F0 m 251 ls [.int s_7.2.2]) rfl ?_
                have e_ : mf_mend m_at m_beside Wd R pic what = (s_7.2.2, 0, t_6) := by rw [mf_mend, if_pos c_1, if_neg c_3, if_pos c_5, zlet_eq ht_6, zlet_eq hs_7, if_neg c_16]
                exact zr_mi hx hb hr hlocks hP hD hS dX7_mend_251 (by rw [e_])  (by rw [e_]) trivial
              · refine lv_iload hx hb dX7_mend_241 (lv_at hl 1 rfl) ?_
                refine lv_goto (tgt := 248) hx hb dX7_mend_243 (by decide) ?_
                refine zr_muV (F := ()) (ff := fun _ => True) (rr := fun _ => some (.int (nI s_7.2.1))) (w1 := fun _ => (mW G ad 0 m_top m_bottom m_taped m_size m_token m_from m_end m_value m_faultKind m_faultPlace m_faults m_seen m_depth m_counted m_lead m_round m_tried m_triedMany m_drawn m_ranSteps m_isTold m_marks m_at m_names m_sort m_trayMany m_trays m_tape m_text m_opened t_6 m_then m_ways m_further m_canBe m_loops m_ran m_told0)) ⟨hx, hb, hml, hown, hts⟩ (mt_mf_gives l G ad m_status m_top m_bottom m_taped m_size m_token m_from m_end m_value m_faultKind m_faultPlace m_faults m_seen m_depth m_counted m_lead m_round m_tried m_triedMany m_drawn m_ranSteps m_isTold m_marks m_at m_names m_sort m_trayMany m_trays m_tape m_text m_opened t_6 m_then m_ways m_further m_canBe m_loops m_ran m_told0 (nI s_7.2.1) H.size) (cwV 1 hts (lw_V q1751 q1753 qs85 q144 q1754) rfl rfl rfl hd_X7_gives ⟨(Nat.le_of_ble_eq_true rfl), (Nat.le_of_ble_eq_true rfl)⟩) hP hD hS hA hK hE 0 7 rfl rfl rfl hl.1 rfl (Nat.le_of_ble_eq_true rfl) dX7_mend_248 ⟨Nat.le_refl _, Nat.le_refl _⟩ (fun _ _ _ H locs hP hD hS _ => ?_)
                refine W.eq (g2 := F0 m 251 ls [.int (nI s_7.2.1)]) rfl ?_
                have e_ : mf_mend m_at m_beside Wd R pic what = (nI s_7.2.1, 0, t_6) := by rw [mf_mend, if_pos c_1, if_neg c_3, if_pos c_5, zlet_eq ht_6, zlet_eq hs_7, if_pos c_16]
                exact zr_mi hx hb hr hlocks hP hD hS dX7_mend_251 (by rw [e_])  (by rw [e_]) trivial
            · have hlt_7 : k_7 < Wd * R := Nat.lt_of_not_le c_7
              refine lv_iload hx hb dX7_mend_88 (lv_at hl 0 rfl) ?_
              refine lv_istore (lv' := [(10, .int (nI k_7)), (9, .int (nI k_7)), (8, .int (nI s_7.1)), (7, .int (nI s_7.2.1)), (6, .int s_7.2.2), (5, .int (mf_free m_at)), (4, .int (pic.toInt32 &&& (mf_whole Wd R))), (0, .ref (ad 0)), (3, .int what)]) hx hb dX7_mend_90 hl (by decide) rfl (fun ls hl => ?_)
              have hx_8 : ∀ t_8 : Nat × Nat × Nat × Int32, mf_mend_L92 m_at Wd R pic t_6 k_7 (k_7, s_7.1, s_7.2.1, s_7.2.2) = t_8 → t_8.2.2.1 ≤ 32 → t_8.2.1 ≤ 32 → ∀ (H : Heap) (locs : List Loc), va_P G.1 zcl (mW G ad m_status m_top m_bottom m_taped m_size m_token m_from m_end m_value m_faultKind m_faultPlace m_faults m_seen m_depth m_counted m_lead m_round m_tried m_triedMany m_drawn m_ranSteps m_isTold m_marks m_at m_names m_sort m_trayMany m_trays m_tape m_text m_opened t_6 m_then m_ways m_further m_canBe m_loops m_ran m_told0) H → va_D A (mW G ad m_status m_top m_bottom m_taped m_size m_token m_from m_end m_value m_faultKind m_faultPlace m_faults m_seen m_depth m_counted m_lead m_round m_tried m_triedMany m_drawn m_ranSteps m_isTold m_marks m_at m_names m_sort m_trayMany m_trays m_tape m_text m_opened t_6 m_then m_ways m_further m_canBe m_loops m_ran m_told0) → va_S A s.heap H locs → ∀ ls : Array Slot, lv_has ls 14 [(9, .int (nI k_7)), (8, .int (nI t_8.2.1)), (7, .int (nI t_8.2.2.1)), (6, .int t_8.2.2.2), (5, .int (mf_free m_at)), (4, .int (pic.toInt32 &&& (mf_whole Wd R))), (0, .ref (ad 0)), (3, .int what)] → W p l e (zR 4 0 0) s m ([.ref (ad 0), .long pic, .int what] : List Value).toArray below meth c H locs 0 0 (MQ below (zQm G (True) (some (.int ((mf_mend m_at m_beside Wd R pic what).1))) (mW G ad ((mf_mend m_at m_beside Wd R pic what).2.1) m_top m_bottom m_taped m_size m_token m_from m_end m_value m_faultKind m_faultPlace m_faults m_seen m_depth m_counted m_lead m_round m_tried m_triedMany m_drawn m_ranSteps m_isTold m_marks m_at m_names m_sort m_trayMany m_trays m_tape m_text m_opened ((mf_mend m_at m_beside Wd R pic what).2.2) m_then m_ways m_further m_canBe m_loops m_ran m_told0) A) ([.ref (ad 0), .long pic, .int what] : List Value).toArray s 0 0 A) (F0 m 230 ls []) := by
                intro t_8 ht_8 hx7 hx8 H locs hP hD hS ls hl
                refine lv_iinc (v := nI (k_7 + 1)) (lv' := [(9, .int (nI (k_7 + 1))), (8, .int (nI t_8.2.1)), (7, .int (nI t_8.2.2.1)), (6, .int t_8.2.2.2), (5, .int (mf_free m_at)), (4, .int (pic.toInt32 &&& (mf_whole Wd R))), (0, .ref (ad 0)), (3, .int what)]) hx hb dX7_mend_230 hl (k := 0) rfl (nI_add k_7 1) (by decide) rfl (fun ls hl => ?_)
                refine lv_goto (tgt := 79) hx hb dX7_mend_233 (by decide) ?_
                exact ih_7 (k_7 + 1) (t_8.2.1, t_8.2.2.1, t_8.2.2.2) hlt_7 (by omega) (zf_s hst_7 (by rw [mf_mend_B79, zlet_eq ht_8])) (by first | omega | (dsimp only; omega)) (by omega) H locs hP hD hS ls (lv_sub hl [0, 1, 2, 3, 4, 5, 6, 7] rfl)
              have hlp_8 : ∀ (n : Nat) (s_8 : Nat × Nat × Nat × Int32), Wd * R - s_8.1 < n → zw (mf_mend_B92 m_at Wd R pic t_6 k_7) (k_7, s_7.1, s_7.2.1, s_7.2.2) n s_8 = mf_mend_L92 m_at Wd R pic t_6 k_7 (k_7, s_7.1, s_7.2.1, s_7.2.2) → s_8.1 ≤ Wd * R → s_8.2.2.1 ≤ 32 → s_8.2.1 ≤ 32 → ∀ (H : Heap) (locs : List Loc), va_P G.1 zcl (mW G ad m_status m_top m_bottom m_taped m_size m_token m_from m_end m_value m_faultKind m_faultPlace m_faults m_seen m_depth m_counted m_lead m_round m_tried m_triedMany m_drawn m_ranSteps m_isTold m_marks m_at m_names m_sort m_trayMany m_trays m_tape m_text m_opened t_6 m_then m_ways m_further m_canBe m_loops m_ran m_told0) H → va_D A (mW G ad m_status m_top m_bottom m_taped m_size m_token m_from m_end m_value m_faultKind m_faultPlace m_faults m_seen m_depth m_counted m_lead m_round m_tried m_triedMany m_drawn m_ranSteps m_isTold m_marks m_at m_names m_sort m_trayMany m_trays m_tape m_text m_opened t_6 m_then m_ways m_further m_canBe m_loops m_ran m_told0) → va_S A s.heap H locs → ∀ ls : Array Slot, lv_has ls 14 [(10, .int (nI s_8.1)), (9, .int (nI k_7)), (8, .int (nI s_8.2.1)), (7, .int (nI s_8.2.2.1)), (6, .int s_8.2.2.2), (5, .int (mf_free m_at)), (4, .int (pic.toInt32 &&& (mf_whole Wd R))), (0, .ref (ad 0)), (3, .int what)] → W p l e (zR 4 0 0) s m ([.ref (ad 0), .long pic, .int what] : List Value).toArray below meth c H locs 0 0 (MQ below (zQm G (True) (some (.int ((mf_mend m_at m_beside Wd R pic what).1))) (mW G ad ((mf_mend m_at m_beside Wd R pic what).2.1) m_top m_bottom m_taped m_size m_token m_from m_end m_value m_faultKind m_faultPlace m_faults m_seen m_depth m_counted m_lead m_round m_tried m_triedMany m_drawn m_ranSteps m_isTold m_marks m_at m_names m_sort m_trayMany m_trays m_tape m_text m_opened ((mf_mend m_at m_beside Wd R pic what).2.2) m_then m_ways m_further m_canBe m_loops m_ran m_told0) A) ([.ref (ad 0), .long pic, .int what] : List Value).toArray s 0 0 A) (F0 m 92 ls []) := by
                intro n
                induction n with
                | zero => exact fun _ h => absurd h (Nat.not_lt_zero _)
                | succ n ih_8 =>
                  intro s_8 hmu_8 hR_8 hi10 hj7 hj8 H locs hP hD hS ls hl
                  refine lv_iload hx hb dX7_mend_92 (lv_at hl 0 rfl) ?_
                  refine lv_aload_n hx hb dX7_mend_94 rfl (lv_at hl 7 rfl) ?_
                  refine zr_obV ⟨hx, hb, hml, hown, hts⟩ (mt_mf_places l G ad m_status m_top m_bottom m_taped m_size m_token m_from m_end m_value m_faultKind m_faultPlace m_faults m_seen m_depth m_counted m_lead m_round m_tried m_triedMany m_drawn m_ranSteps m_isTold m_marks m_at m_names m_sort m_trayMany m_trays m_tape m_text m_opened t_6 m_then m_ways m_further m_canBe m_loops m_ran m_told0 Wd R nr nc hG) (cwV 0 hts (lw_V q1815 q1817 qs97 q144 q1818) rfl rfl rfl hd_X7_places ⟨(Nat.le_of_ble_eq_true rfl), (Nat.le_of_ble_eq_true rfl)⟩) hP hK (zE_o hE hS) 0 7 rfl rfl rfl hl.1 rfl (Nat.le_of_ble_eq_true rfl) dX7_mend_95 ⟨Nat.le_refl _, Nat.le_refl _⟩ ?_
                  refine zr_ge s_8.1 (Wd * R) (by omega) (by omega) (tgt := 230) hx hb dX7_mend_98 (by decide) (fun c_9 => ?_) (fun c_9 => ?_)
                  · exact hx_8 (s_8.1, s_8.2.1, s_8.2.2.1, s_8.2.2.2) (hR_8.symm.trans (zw_r (by rw [mf_mend_B92, if_pos c_9]))) hj7 hj8 H locs hP hD hS ls (lv_sub hl [1, 2, 3, 4, 5, 6, 7, 8] rfl)
                  · refine lv_iconst (v := 1) hx hb dX7_mend_101 (by decide) ?_
                    refine lv_iload hx hb dX7_mend_102 (lv_at hl 1 rfl) ?_
                    refine lv_ishl hx hb dX7_mend_104 ?_
                    refine lv_iconst (v := 1) hx hb dX7_mend_105 (by decide) ?_
                    refine lv_iload hx hb dX7_mend_106 (lv_at hl 0 rfl) ?_
                    refine lv_ishl hx hb dX7_mend_108 ?_
                    refine lv_ior hx hb dX7_mend_109 ?_
                    refine lv_istore (lv' := [(11, .int (((1 : Int32) <<< ((nI k_7) &&& 31)) ||| ((1 : Int32) <<< ((nI s_8.1) &&& 31)))), (10, .int (nI s_8.1)), (9, .int (nI k_7)), (8, .int (nI s_8.2.1)), (7, .int (nI s_8.2.2.1)), (6, .int s_8.2.2.2), (5, .int (mf_free m_at)), (4, .int (pic.toInt32 &&& (mf_whole Wd R))), (0, .ref (ad 0)), (3, .int what)]) hx hb dX7_mend_110 hl (by decide) rfl (fun ls hl => ?_)
                    refine lv_iload hx hb dX7_mend_112 (lv_at hl 0 rfl) ?_
                    refine lv_iload hx hb dX7_mend_114 (lv_at hl 6 rfl) ?_
                    refine lv_iconst (v := (-1)) hx hb dX7_mend_116 (by decide) ?_
                    refine lv_ixor hx hb dX7_mend_117 ?_
                    refine lv_iand hx hb dX7_mend_118 ?_
                    refine lv_if_eq (tgt := 125) hx hb dX7_mend_119 (by decide) (fun c_10 => ?_) (fun c_10 => ?_)
                    · refine lv_aload_n hx hb dX7_mend_125 rfl (lv_at hl 8 rfl) ?_
                      refine lv_aload_n hx hb dX7_mend_126 rfl (lv_at hl 8 rfl) ?_
                      refine va_get (D := G.1) (ci := 7) (v := .ref (ad 1)) (C := RX7) (T := TX7) (N := 39) hx hb hts in_X7 hown hK.1 hP 0 rfl rfl 0 (Nat.le_of_ble_eq_true rfl) (hts _ q1467) (fun _ h => h) rfl dX7_mend_127 ?_
                      refine lv_iconst (v := 3) hx hb dX7_mend_130 (by decide) ?_
                      refine zr_iald 3 (v := m_at 3) hx hb hK hP 1 rfl rfl (Nat.le_of_ble_eq_true rfl) rfl (by decide) rfl dX7_mend_131 ?_
                      refine lv_iload hx hb dX7_mend_132 (lv_at hl 0 rfl) ?_
                      refine lv_ixor hx hb dX7_mend_134 ?_
                      refine lv_aload_n hx hb dX7_mend_135 rfl (lv_at hl 8 rfl) ?_
                      refine va_get (D := G.1) (ci := 7) (v := .ref (ad 1)) (C := RX7) (T := TX7) (N := 39) hx hb hts in_X7 hown hK.1 hP 0 rfl rfl 0 (Nat.le_of_ble_eq_true rfl) (hts _ q1467) (fun _ h => h) rfl dX7_mend_136 ?_
                      refine lv_bipush (v := 10) hx hb dX7_mend_139 (by decide) ?_
                      refine zr_iald 10 (v := m_at 10) hx hb hK hP 1 rfl rfl (Nat.le_of_ble_eq_true rfl) rfl (by decide) rfl dX7_mend_141 ?_
                      refine zr_obV ⟨hx, hb, hml, hown, hts⟩ (mt_mf_becomes l G ad m_status m_top m_bottom m_taped m_size m_token m_from m_end m_value m_faultKind m_faultPlace m_faults m_seen m_depth m_counted m_lead m_round m_tried m_triedMany m_drawn m_ranSteps m_isTold m_marks m_at m_names m_sort m_trayMany m_trays m_tape m_text m_opened t_6 m_then m_ways m_further m_canBe m_loops m_ran m_told0 Wd R nr nc ((m_at 3) ^^^ (((1 : Int32) <<< ((nI k_7) &&& 31)) ||| ((1 : Int32) <<< ((nI s_8.1) &&& 31)))) (m_at 10) hG (mOK_by hG)) (cwV 2 hts (lw_V q1893 q1895 qs106 q144 q1896) rfl rfl rfl hd_X7_becomes ⟨(Nat.le_of_ble_eq_true rfl), (Nat.le_of_ble_eq_true rfl)⟩) hP hK (zE_o hE hS) 0 7 rfl rfl rfl hl.1 rfl (Nat.le_of_ble_eq_true rfl) dX7_mend_142 ⟨Nat.le_refl _, Nat.le_refl _⟩ ?_
                      refine lv_iload hx hb dX7_mend_145 (lv_at hl 7 rfl) ?_
                      refine lv_ixor hx hb dX7_mend_147 ?_
                      refine zr_puS ⟨hx, hb, hml, hown, hts⟩ (mt_bitsN l ((mf_becomes m_at t_6 Wd R ((m_at 3) ^^^ (((1 : Int32) <<< ((nI k_7) &&& 31)) ||| ((1 : Int32) <<< ((nI s_8.1) &&& 31)))) (m_at 10)) ^^^ (pic.toInt32 &&& (mf_whole Wd R)))) (va_cwS 1 hts (lw_S q1744 q1745 q144 q1746) rfl rfl rfl hd_X7_bits.2 ⟨(Nat.le_of_ble_eq_true rfl), (Nat.le_of_ble_eq_true rfl)⟩) rfl hl.1 rfl (Nat.le_of_ble_eq_true rfl) dX7_mend_148 ⟨Nat.le_refl _, Nat.le_refl _⟩ ?_
                      have hbl_1 : (zpc ((mf_becomes m_at t_6 Wd R ((m_at 3) ^^^ (((1 : Int32) <<< ((nI k_7) &&& 31)) ||| ((1 : Int32) <<< ((nI s_8.1) &&& 31)))) (m_at 10)) ^^^ (pic.toInt32 &&& (mf_whole Wd R)))) ≤ 32 := zpc_le _
                      refine lv_istore (lv' := [(12, .int (nI (zpc ((mf_becomes m_at t_6 Wd R ((m_at 3) ^^^ (((1 : Int32) <<< ((nI k_7) &&& 31)) ||| ((1 : Int32) <<< ((nI s_8.1) &&& 31)))) (m_at 10)) ^^^ (pic.toInt32 &&& (mf_whole Wd R)))))), (11, .int (((1 : Int32) <<< ((nI k_7) &&& 31)) ||| ((1 : Int32) <<< ((nI s_8.1) &&& 31)))), (10, .int (nI s_8.1)), (9, .int (nI k_7)), (8, .int (nI s_8.2.1)), (7, .int (nI s_8.2.2.1)), (6, .int s_8.2.2.2), (5, .int (mf_free m_at)), (4, .int (pic.toInt32 &&& (mf_whole Wd R))), (0, .ref (ad 0)), (3, .int what)]) hx hb dX7_mend_151 hl (by decide) rfl (fun ls hl => ?_)
                      refine lv_iload hx hb dX7_mend_153 (lv_at hl 0 rfl) ?_
                      refine lv_iload hx hb dX7_mend_155 (lv_at hl 5 rfl) ?_
                      refine zr_lt (zpc ((mf_becomes m_at t_6 Wd R ((m_at 3) ^^^ (((1 : Int32) <<< ((nI k_7) &&& 31)) ||| ((1 : Int32) <<< ((nI s_8.1) &&& 31)))) (m_at 10)) ^^^ (pic.toInt32 &&& (mf_whole Wd R)))) s_8.2.2.1 (by omega) (by omega) (tgt := 194) hx hb dX7_mend_157 (by decide) (fun c_11 => ?_) (fun c_11 => ?_)
                      · refine lv_iconst (v := 1) hx hb dX7_mend_194 (by decide) ?_
                        refine lv_goto (tgt := 199) hx hb dX7_mend_195 (by decide) ?_
                        refine lv_istore (lv' := [(13, .int 1), (12, .int (nI (zpc ((mf_becomes m_at t_6 Wd R ((m_at 3) ^^^ (((1 : Int32) <<< ((nI k_7) &&& 31)) ||| ((1 : Int32) <<< ((nI s_8.1) &&& 31)))) (m_at 10)) ^^^ (pic.toInt32 &&& (mf_whole Wd R)))))), (11, .int (((1 : Int32) <<< ((nI k_7) &&& 31)) ||| ((1 : Int32) <<< ((nI s_8.1) &&& 31)))), (10, .int (nI s_8.1)), (9, .int (nI k_7)), (8, .int (nI s_8.2.1)), (7, .int (nI s_8.2.2.1)), (6, .int s_8.2.2.2), (5, .int (mf_free m_at)), (4, .int (pic.toInt32 &&& (mf_whole Wd R))), (0, .ref (ad 0)), (3, .int what)]) hx hb dX7_mend_199 hl (by decide) rfl (fun ls hl => ?_)
                        refine lv_iload hx hb dX7_mend_201 (lv_at hl 0 rfl) ?_
                        refine lv_if_ne (tgt := 209) hx hb dX7_mend_203 (by decide) (fun _ => ?_) (fun z => absurd z (by decide))
                        refine lv_iload hx hb dX7_mend_209 (lv_at hl 1 rfl) ?_
                        refine lv_istore (lv' := [(7, .int (nI (zpc ((mf_becomes m_at t_6 Wd R ((m_at 3) ^^^ (((1 : Int32) <<< ((nI k_7) &&& 31)) ||| ((1 : Int32) <<< ((nI s_8.1) &&& 31)))) (m_at 10)) ^^^ (pic.toInt32 &&& (mf_whole Wd R)))))), (13, .int 1), (12, .int (nI (zpc ((mf_becomes m_at t_6 Wd R ((m_at 3) ^^^ (((1 : Int32) <<< ((nI k_7) &&& 31)) ||| ((1 : Int32) <<< ((nI s_8.1) &&& 31)))) (m_at 10)) ^^^ (pic.toInt32 &&& (mf_whole Wd R)))))), (11, .int (((1 : Int32) <<< ((nI k_7) &&& 31)) ||| ((1 : Int32) <<< ((nI s_8.1) &&& 31)))), (10, .int (nI s_8.1)), (9, .int (nI k_7)), (8, .int (nI s_8.2.1)), (6, .int s_8.2.2.2), (5, .int (mf_free m_at)), (4, .int (pic.toInt32 &&& (mf_whole Wd R))), (0, .ref (ad 0)), (3, .int what)]) hx hb dX7_mend_211 hl (by decide) rfl (fun ls hl => ?_)
                        refine lv_iload hx hb dX7_mend_213 (lv_at hl 3 rfl) ?_
                        refine zr_puS ⟨hx, hb, hml, hown, hts⟩ (mt_bitsN l (((1 : Int32) <<< ((nI k_7) &&& 31)) ||| ((1 : Int32) <<< ((nI s_8.1) &&& 31)))) (va_cwS 1 hts (lw_S q1744 q1745 q144 q1746) rfl rfl rfl hd_X7_bits.2 ⟨(Nat.le_of_ble_eq_true rfl), (Nat.le_of_ble_eq_true rfl)⟩) rfl hl.1 rfl (Nat.le_of_ble_eq_true rfl) dX7_mend_215 ⟨Nat.le_refl _, Nat.le_refl _⟩ ?_
                        have hbl_4 : (zpc (((1 : Int32) <<< ((nI k_7) &&& 31)) ||| ((1 : Int32) <<< ((nI s_8.1) &&& 31)))) ≤ 32 := zpc_le _
                        refine lv_istore (lv' := [(8, .int (nI (zpc (((1 : Int32) <<< ((nI k_7) &&& 31)) ||| ((1 : Int32) <<< ((nI s_8.1) &&& 31)))))), (7, .int (nI (zpc ((mf_becomes m_at t_6 Wd R ((m_at 3) ^^^ (((1 : Int32) <<< ((nI k_7) &&& 31)) ||| ((1 : Int32) <<< ((nI s_8.1) &&& 31)))) (m_at 10)) ^^^ (pic.toInt32 &&& (mf_whole Wd R)))))), (13, .int 1), (12, .int (nI (zpc ((mf_becomes m_at t_6 Wd R ((m_at 3) ^^^ (((1 : Int32) <<< ((nI k_7) &&& 31)) ||| ((1 : Int32) <<< ((nI s_8.1) &&& 31)))) (m_at 10)) ^^^ (pic.toInt32 &&& (mf_whole Wd R)))))), (11, .int (((1 : Int32) <<< ((nI k_7) &&& 31)) ||| ((1 : Int32) <<< ((nI s_8.1) &&& 31)))), (10, .int (nI s_8.1)), (9, .int (nI k_7)), (6, .int s_8.2.2.2), (5, .int (mf_free m_at)), (4, .int (pic.toInt32 &&& (mf_whole Wd R))), (0, .ref (ad 0)), (3, .int what)]) hx hb dX7_mend_218 hl (by decide) rfl (fun ls hl => ?_)
                        refine lv_iload hx hb dX7_mend_220 (lv_at hl 4 rfl) ?_
                        refine lv_istore (lv' := [(6, .int (((1 : Int32) <<< ((nI k_7) &&& 31)) ||| ((1 : Int32) <<< ((nI s_8.1) &&& 31)))), (8, .int (nI (zpc (((1 : Int32) <<< ((nI k_7) &&& 31)) ||| ((1 : Int32) <<< ((nI s_8.1) &&& 31)))))), (7, .int (nI (zpc ((mf_becomes m_at t_6 Wd R ((m_at 3) ^^^ (((1 : Int32) <<< ((nI k_7) &&& 31)) ||| ((1 : Int32) <<< ((nI s_8.1) &&& 31)))) (m_at 10)) ^^^ (pic.toInt32 &&& (mf_whole Wd R)))))), (13, .int 1), (12, .int (nI (zpc ((mf_becomes m_at t_6 Wd R ((m_at 3) ^^^ (((1 : Int32) <<< ((nI k_7) &&& 31)) ||| ((1 : Int32) <<< ((nI s_8.1) &&& 31)))) (m_at 10)) ^^^ (pic.toInt32 &&& (mf_whole Wd R)))))), (11, .int (((1 : Int32) <<< ((nI k_7) &&& 31)) ||| ((1 : Int32) <<< ((nI s_8.1) &&& 31)))), (10, .int (nI s_8.1)), (9, .int (nI k_7)), (5, .int (mf_free m_at)), (4, .int (pic.toInt32 &&& (mf_whole Wd R))), (0, .ref (ad 0)), (3, .int what)]) hx hb dX7_mend_222 hl (by decide) rfl (fun ls hl => ?_)
                        refine lv_iinc (v := nI (s_8.1 + 1)) (lv' := [(10, .int (nI (s_8.1 + 1))), (6, .int (((1 : Int32) <<< ((nI k_7) &&& 31)) ||| ((1 : Int32) <<< ((nI s_8.1) &&& 31)))), (8, .int (nI (zpc (((1 : Int32) <<< ((nI k_7) &&& 31)) ||| ((1 : Int32) <<< ((nI s_8.1) &&& 31)))))), (7, .int (nI (zpc ((mf_becomes m_at t_6 Wd R ((m_at 3) ^^^ (((1 : Int32) <<< ((nI k_7) &&& 31)) ||| ((1 : Int32) <<< ((nI s_8.1) &&& 31)))) (m_at 10)) ^^^ (pic.toInt32 &&& (mf_whole Wd R)))))), (13, .int 1), (12, .int (nI (zpc ((mf_becomes m_at t_6 Wd R ((m_at 3) ^^^ (((1 : Int32) <<< ((nI k_7) &&& 31)) ||| ((1 : Int32) <<< ((nI s_8.1) &&& 31)))) (m_at 10)) ^^^ (pic.toInt32 &&& (mf_whole Wd R)))))), (11, .int (((1 : Int32) <<< ((nI k_7) &&& 31)) ||| ((1 : Int32) <<< ((nI s_8.1) &&& 31)))), (9, .int (nI k_7)), (5, .int (mf_free m_at)), (4, .int (pic.toInt32 &&& (mf_whole Wd R))), (0, .ref (ad 0)), (3, .int what)]) hx hb dX7_mend_224 hl (k := 6) rfl (nI_add s_8.1 1) (by decide) rfl (fun ls hl => ?_)
                        refine lv_goto (tgt := 92) hx hb dX7_mend_227 (by decide) ?_
                        exact ih_8 (s_8.1 + 1, zpc (((1 : Int32) <<< ((nI k_7) &&& 31)) ||| ((1 : Int32) <<< ((nI s_8.1) &&& 31))), zpc ((mf_becomes m_at t_6 Wd R ((m_at 3) ^^^ (((1 : Int32) <<< ((nI k_7) &&& 31)) ||| ((1 : Int32) <<< ((nI s_8.1) &&& 31)))) (m_at 10)) ^^^ (pic.toInt32 &&& (mf_whole Wd R))), ((1 : Int32) <<< ((nI k_7) &&& 31)) ||| ((1 : Int32) <<< ((nI s_8.1) &&& 31))) (by omega) ((zw_l (by rw [mf_mend_B92, if_neg c_9, if_pos c_10, if_pos c_11])).symm.trans hR_8) (by omega) (by first | omega | (dsimp only; omega)) (by first | omega | (dsimp only; omega)) H locs hP hD hS ls (lv_sub hl [0, 7, 2, 3, 1, 8, 9, 10, 11] rfl)
                      · refine lv_iload hx hb dX7_mend_160 (lv_at hl 0 rfl) ?_
                        refine lv_iload hx hb dX7_mend_162 (lv_at hl 5 rfl) ?_
                        refine zr_ne (zpc ((mf_becomes m_at t_6 Wd R ((m_at 3) ^^^ (((1 : Int32) <<< ((nI k_7) &&& 31)) ||| ((1 : Int32) <<< ((nI s_8.1) &&& 31)))) (m_at 10)) ^^^ (pic.toInt32 &&& (mf_whole Wd R)))) s_8.2.2.1 (by omega) (by omega) (tgt := 198) hx hb dX7_mend_164 (by decide) (fun c_12 => ?_) (fun c_12 => ?_)
                        · refine lv_iconst (v := 0) hx hb dX7_mend_198 (by decide) ?_
                          refine lv_istore (lv' := [(13, .int 0), (12, .int (nI (zpc ((mf_becomes m_at t_6 Wd R ((m_at 3) ^^^ (((1 : Int32) <<< ((nI k_7) &&& 31)) ||| ((1 : Int32) <<< ((nI s_8.1) &&& 31)))) (m_at 10)) ^^^ (pic.toInt32 &&& (mf_whole Wd R)))))), (11, .int (((1 : Int32) <<< ((nI k_7) &&& 31)) ||| ((1 : Int32) <<< ((nI s_8.1) &&& 31)))), (10, .int (nI s_8.1)), (9, .int (nI k_7)), (8, .int (nI s_8.2.1)), (7, .int (nI s_8.2.2.1)), (6, .int s_8.2.2.2), (5, .int (mf_free m_at)), (4, .int (pic.toInt32 &&& (mf_whole Wd R))), (0, .ref (ad 0)), (3, .int what)]) hx hb dX7_mend_199 hl (by decide) rfl (fun ls hl => ?_)
                          refine lv_iload hx hb dX7_mend_201 (lv_at hl 0 rfl) ?_
                          refine lv_if_ne (tgt := 209) hx hb dX7_mend_203 (by decide) (fun z => absurd (by decide) z) (fun _ => ?_)
                          refine lv_goto (tgt := 224) hx hb dX7_mend_206 (by decide) ?_
                          refine lv_iinc (v := nI (s_8.1 + 1)) (lv' := [(10, .int (nI (s_8.1 + 1))), (13, .int 0), (12, .int (nI (zpc ((mf_becomes m_at t_6 Wd R ((m_at 3) ^^^ (((1 : Int32) <<< ((nI k_7) &&& 31)) ||| ((1 : Int32) <<< ((nI s_8.1) &&& 31)))) (m_at 10)) ^^^ (pic.toInt32 &&& (mf_whole Wd R)))))), (11, .int (((1 : Int32) <<< ((nI k_7) &&& 31)) ||| ((1 : Int32) <<< ((nI s_8.1) &&& 31)))), (9, .int (nI k_7)), (8, .int (nI s_8.2.1)), (7, .int (nI s_8.2.2.1)), (6, .int s_8.2.2.2), (5, .int (mf_free m_at)), (4, .int (pic.toInt32 &&& (mf_whole Wd R))), (0, .ref (ad 0)), (3, .int what)]) hx hb dX7_mend_224 hl (k := 3) rfl (nI_add s_8.1 1) (by decide) rfl (fun ls hl => ?_)
                          refine lv_goto (tgt := 92) hx hb dX7_mend_227 (by decide) ?_
                          exact ih_8 (s_8.1 + 1, s_8.2.1, s_8.2.2.1, s_8.2.2.2) (by omega) ((zw_l (by rw [mf_mend_B92, if_neg c_9, if_pos c_10, if_neg c_11, if_neg c_12])).symm.trans hR_8) (by omega) (by first | omega | (dsimp only; omega)) (by first | omega | (dsimp only; omega)) H locs hP hD hS ls (lv_sub hl [0, 4, 5, 6, 7, 8, 9, 10, 11] rfl)
                        · refine lv_iload hx hb dX7_mend_167 (lv_at hl 1 rfl) ?_
                          refine zr_puS ⟨hx, hb, hml, hown, hts⟩ (mt_bitsN l (((1 : Int32) <<< ((nI k_7) &&& 31)) ||| ((1 : Int32) <<< ((nI s_8.1) &&& 31)))) (va_cwS 1 hts (lw_S q1744 q1745 q144 q1746) rfl rfl rfl hd_X7_bits.2 ⟨(Nat.le_of_ble_eq_true rfl), (Nat.le_of_ble_eq_true rfl)⟩) rfl hl.1 rfl (Nat.le_of_ble_eq_true rfl) dX7_mend_169 ⟨Nat.le_refl _, Nat.le_refl _⟩ ?_
                          have hbl_2 : (zpc (((1 : Int32) <<< ((nI k_7) &&& 31)) ||| ((1 : Int32) <<< ((nI s_8.1) &&& 31)))) ≤ 32 := zpc_le _
                          refine lv_iload hx hb dX7_mend_172 (lv_at hl 4 rfl) ?_
                          refine zr_lt (zpc (((1 : Int32) <<< ((nI k_7) &&& 31)) ||| ((1 : Int32) <<< ((nI s_8.1) &&& 31)))) s_8.2.1 (by omega) (by omega) (tgt := 194) hx hb dX7_mend_174 (by decide) (fun c_13 => ?_) (fun c_13 => ?_)
                          · refine lv_iconst (v := 1) hx hb dX7_mend_194 (by decide) ?_
                            refine lv_goto (tgt := 199) hx hb dX7_mend_195 (by decide) ?_
                            refine lv_istore (lv' := [(13, .int 1), (12, .int (nI (zpc ((mf_becomes m_at t_6 Wd R ((m_at 3) ^^^ (((1 : Int32) <<< ((nI k_7) &&& 31)) ||| ((1 : Int32) <<< ((nI s_8.1) &&& 31)))) (m_at 10)) ^^^ (pic.toInt32 &&& (mf_whole Wd R)))))), (11, .int (((1 : Int32) <<< ((nI k_7) &&& 31)) ||| ((1 : Int32) <<< ((nI s_8.1) &&& 31)))), (10, .int (nI s_8.1)), (9, .int (nI k_7)), (8, .int (nI s_8.2.1)), (7, .int (nI s_8.2.2.1)), (6, .int s_8.2.2.2), (5, .int (mf_free m_at)), (4, .int (pic.toInt32 &&& (mf_whole Wd R))), (0, .ref (ad 0)), (3, .int what)]) hx hb dX7_mend_199 hl (by decide) rfl (fun ls hl => ?_)
                            refine lv_iload hx hb dX7_mend_201 (lv_at hl 0 rfl) ?_
                            refine lv_if_ne (tgt := 209) hx hb dX7_mend_203 (by decide) (fun _ => ?_) (fun z => absurd z (by decide))
                            refine lv_iload hx hb dX7_mend_209 (lv_at hl 1 rfl) ?_
                            refine lv_istore (lv' := [(7, .int (nI (zpc ((mf_becomes m_at t_6 Wd R ((m_at 3) ^^^ (((1 : Int32) <<< ((nI k_7) &&& 31)) ||| ((1 : Int32) <<< ((nI s_8.1) &&& 31)))) (m_at 10)) ^^^ (pic.toInt32 &&& (mf_whole Wd R)))))), (13, .int 1), (12, .int (nI (zpc ((mf_becomes m_at t_6 Wd R ((m_at 3) ^^^ (((1 : Int32) <<< ((nI k_7) &&& 31)) ||| ((1 : Int32) <<< ((nI s_8.1) &&& 31)))) (m_at 10)) ^^^ (pic.toInt32 &&& (mf_whole Wd R)))))), (11, .int (((1 : Int32) <<< ((nI k_7) &&& 31)) ||| ((1 : Int32) <<< ((nI s_8.1) &&& 31)))), (10, .int (nI s_8.1)), (9, .int (nI k_7)), (8, .int (nI s_8.2.1)), (6, .int s_8.2.2.2), (5, .int (mf_free m_at)), (4, .int (pic.toInt32 &&& (mf_whole Wd R))), (0, .ref (ad 0)), (3, .int what)]) hx hb dX7_mend_211 hl (by decide) rfl (fun ls hl => ?_)
                            refine lv_iload hx hb dX7_mend_213 (lv_at hl 3 rfl) ?_
                            refine zr_puS ⟨hx, hb, hml, hown, hts⟩ (mt_bitsN l (((1 : Int32) <<< ((nI k_7) &&& 31)) ||| ((1 : Int32) <<< ((nI s_8.1) &&& 31)))) (va_cwS 1 hts (lw_S q1744 q1745 q144 q1746) rfl rfl rfl hd_X7_bits.2 ⟨(Nat.le_of_ble_eq_true rfl), (Nat.le_of_ble_eq_true rfl)⟩) rfl hl.1 rfl (Nat.le_of_ble_eq_true rfl) dX7_mend_215 ⟨Nat.le_refl _, Nat.le_refl _⟩ ?_
                            have hbl_4 : (zpc (((1 : Int32) <<< ((nI k_7) &&& 31)) ||| ((1 : Int32) <<< ((nI s_8.1) &&& 31)))) ≤ 32 := zpc_le _
                            refine lv_istore (lv' := [(8, .int (nI (zpc (((1 : Int32) <<< ((nI k_7) &&& 31)) ||| ((1 : Int32) <<< ((nI s_8.1) &&& 31)))))), (7, .int (nI (zpc ((mf_becomes m_at t_6 Wd R ((m_at 3) ^^^ (((1 : Int32) <<< ((nI k_7) &&& 31)) ||| ((1 : Int32) <<< ((nI s_8.1) &&& 31)))) (m_at 10)) ^^^ (pic.toInt32 &&& (mf_whole Wd R)))))), (13, .int 1), (12, .int (nI (zpc ((mf_becomes m_at t_6 Wd R ((m_at 3) ^^^ (((1 : Int32) <<< ((nI k_7) &&& 31)) ||| ((1 : Int32) <<< ((nI s_8.1) &&& 31)))) (m_at 10)) ^^^ (pic.toInt32 &&& (mf_whole Wd R)))))), (11, .int (((1 : Int32) <<< ((nI k_7) &&& 31)) ||| ((1 : Int32) <<< ((nI s_8.1) &&& 31)))), (10, .int (nI s_8.1)), (9, .int (nI k_7)), (6, .int s_8.2.2.2), (5, .int (mf_free m_at)), (4, .int (pic.toInt32 &&& (mf_whole Wd R))), (0, .ref (ad 0)), (3, .int what)]) hx hb dX7_mend_218 hl (by decide) rfl (fun ls hl => ?_)
                            refine lv_iload hx hb dX7_mend_220 (lv_at hl 4 rfl) ?_
                            refine lv_istore (lv' := [(6, .int (((1 : Int32) <<< ((nI k_7) &&& 31)) ||| ((1 : Int32) <<< ((nI s_8.1) &&& 31)))), (8, .int (nI (zpc (((1 : Int32) <<< ((nI k_7) &&& 31)) ||| ((1 : Int32) <<< ((nI s_8.1) &&& 31)))))), (7, .int (nI (zpc ((mf_becomes m_at t_6 Wd R ((m_at 3) ^^^ (((1 : Int32) <<< ((nI k_7) &&& 31)) ||| ((1 : Int32) <<< ((nI s_8.1) &&& 31)))) (m_at 10)) ^^^ (pic.toInt32 &&& (mf_whole Wd R)))))), (13, .int 1), (12, .int (nI (zpc ((mf_becomes m_at t_6 Wd R ((m_at 3) ^^^ (((1 : Int32) <<< ((nI k_7) &&& 31)) ||| ((1 : Int32) <<< ((nI s_8.1) &&& 31)))) (m_at 10)) ^^^ (pic.toInt32 &&& (mf_whole Wd R)))))), (11, .int (((1 : Int32) <<< ((nI k_7) &&& 31)) ||| ((1 : Int32) <<< ((nI s_8.1) &&& 31)))), (10, .int (nI s_8.1)), (9, .int (nI k_7)), (5, .int (mf_free m_at)), (4, .int (pic.toInt32 &&& (mf_whole Wd R))), (0, .ref (ad 0)), (3, .int what)]) hx hb dX7_mend_222 hl (by decide) rfl (fun ls hl => ?_)
                            refine lv_iinc (v := nI (s_8.1 + 1)) (lv' := [(10, .int (nI (s_8.1 + 1))), (6, .int (((1 : Int32) <<< ((nI k_7) &&& 31)) ||| ((1 : Int32) <<< ((nI s_8.1) &&& 31)))), (8, .int (nI (zpc (((1 : Int32) <<< ((nI k_7) &&& 31)) ||| ((1 : Int32) <<< ((nI s_8.1) &&& 31)))))), (7, .int (nI (zpc ((mf_becomes m_at t_6 Wd R ((m_at 3) ^^^ (((1 : Int32) <<< ((nI k_7) &&& 31)) ||| ((1 : Int32) <<< ((nI s_8.1) &&& 31)))) (m_at 10)) ^^^ (pic.toInt32 &&& (mf_whole Wd R)))))), (13, .int 1), (12, .int (nI (zpc ((mf_becomes m_at t_6 Wd R ((m_at 3) ^^^ (((1 : Int32) <<< ((nI k_7) &&& 31)) ||| ((1 : Int32) <<< ((nI s_8.1) &&& 31)))) (m_at 10)) ^^^ (pic.toInt32 &&& (mf_whole Wd R)))))), (11, .int (((1 : Int32) <<< ((nI k_7) &&& 31)) ||| ((1 : Int32) <<< ((nI s_8.1) &&& 31)))), (9, .int (nI k_7)), (5, .int (mf_free m_at)), (4, .int (pic.toInt32 &&& (mf_whole Wd R))), (0, .ref (ad 0)), (3, .int what)]) hx hb dX7_mend_224 hl (k := 6) rfl (nI_add s_8.1 1) (by decide) rfl (fun ls hl => ?_)
                            refine lv_goto (tgt := 92) hx hb dX7_mend_227 (by decide) ?_
                            exact ih_8 (s_8.1 + 1, zpc (((1 : Int32) <<< ((nI k_7) &&& 31)) ||| ((1 : Int32) <<< ((nI s_8.1) &&& 31))), zpc ((mf_becomes m_at t_6 Wd R ((m_at 3) ^^^ (((1 : Int32) <<< ((nI k_7) &&& 31)) ||| ((1 : Int32) <<< ((nI s_8.1) &&& 31)))) (m_at 10)) ^^^ (pic.toInt32 &&& (mf_whole Wd R))), ((1 : Int32) <<< ((nI k_7) &&& 31)) ||| ((1 : Int32) <<< ((nI s_8.1) &&& 31))) (by omega) ((zw_l (by rw [mf_mend_B92, if_neg c_9, if_pos c_10, if_neg c_11, if_pos c_12, if_pos c_13])).symm.trans hR_8) (by omega) (by first | omega | (dsimp only; omega)) (by first | omega | (dsimp only; omega)) H locs hP hD hS ls (lv_sub hl [0, 7, 2, 3, 1, 8, 9, 10, 11] rfl)
                          · refine lv_iload hx hb dX7_mend_177 (lv_at hl 1 rfl) ?_
                            refine zr_puS ⟨hx, hb, hml, hown, hts⟩ (mt_bitsN l (((1 : Int32) <<< ((nI k_7) &&& 31)) ||| ((1 : Int32) <<< ((nI s_8.1) &&& 31)))) (va_cwS 1 hts (lw_S q1744 q1745 q144 q1746) rfl rfl rfl hd_X7_bits.2 ⟨(Nat.le_of_ble_eq_true rfl), (Nat.le_of_ble_eq_true rfl)⟩) rfl hl.1 rfl (Nat.le_of_ble_eq_true rfl) dX7_mend_179 ⟨Nat.le_refl _, Nat.le_refl _⟩ ?_
                            have hbl_3 : (zpc (((1 : Int32) <<< ((nI k_7) &&& 31)) ||| ((1 : Int32) <<< ((nI s_8.1) &&& 31)))) ≤ 32 := zpc_le _
                            refine lv_iload hx hb dX7_mend_182 (lv_at hl 4 rfl) ?_
                            refine zr_ne (zpc (((1 : Int32) <<< ((nI k_7) &&& 31)) ||| ((1 : Int32) <<< ((nI s_8.1) &&& 31)))) s_8.2.1 (by omega) (by omega) (tgt := 198) hx hb dX7_mend_184 (by decide) (fun c_14 => ?_) (fun c_14 => ?_)
                            · refine lv_iconst (v := 0) hx hb dX7_mend_198 (by decide) ?_
                              refine lv_istore (lv' := [(13, .int 0), (12, .int (nI (zpc ((mf_becomes m_at t_6 Wd R ((m_at 3) ^^^ (((1 : Int32) <<< ((nI k_7) &&& 31)) ||| ((1 : Int32) <<< ((nI s_8.1) &&& 31)))) (m_at 10)) ^^^ (pic.toInt32 &&& (mf_whole Wd R)))))), (11, .int (((1 : Int32) <<< ((nI k_7) &&& 31)) ||| ((1 : Int32) <<< ((nI s_8.1) &&& 31)))), (10, .int (nI s_8.1)), (9, .int (nI k_7)), (8, .int (nI s_8.2.1)), (7, .int (nI s_8.2.2.1)), (6, .int s_8.2.2.2), (5, .int (mf_free m_at)), (4, .int (pic.toInt32 &&& (mf_whole Wd R))), (0, .ref (ad 0)), (3, .int what)]) hx hb dX7_mend_199 hl (by decide) rfl (fun ls hl => ?_)
                              refine lv_iload hx hb dX7_mend_201 (lv_at hl 0 rfl) ?_
                              refine lv_if_ne (tgt := 209) hx hb dX7_mend_203 (by decide) (fun z => absurd (by decide) z) (fun _ => ?_)
                              refine lv_goto (tgt := 224) hx hb dX7_mend_206 (by decide) ?_
                              refine lv_iinc (v := nI (s_8.1 + 1)) (lv' := [(10, .int (nI (s_8.1 + 1))), (13, .int 0), (12, .int (nI (zpc ((mf_becomes m_at t_6 Wd R ((m_at 3) ^^^ (((1 : Int32) <<< ((nI k_7) &&& 31)) ||| ((1 : Int32) <<< ((nI s_8.1) &&& 31)))) (m_at 10)) ^^^ (pic.toInt32 &&& (mf_whole Wd R)))))), (11, .int (((1 : Int32) <<< ((nI k_7) &&& 31)) ||| ((1 : Int32) <<< ((nI s_8.1) &&& 31)))), (9, .int (nI k_7)), (8, .int (nI s_8.2.1)), (7, .int (nI s_8.2.2.1)), (6, .int s_8.2.2.2), (5, .int (mf_free m_at)), (4, .int (pic.toInt32 &&& (mf_whole Wd R))), (0, .ref (ad 0)), (3, .int what)]) hx hb dX7_mend_224 hl (k := 3) rfl (nI_add s_8.1 1) (by decide) rfl (fun ls hl => ?_)
                              refine lv_goto (tgt := 92) hx hb dX7_mend_227 (by decide) ?_
                              exact ih_8 (s_8.1 + 1, s_8.2.1, s_8.2.2.1, s_8.2.2.2) (by omega) ((zw_l (by rw [mf_mend_B92, if_neg c_9, if_pos c_10, if_neg c_11, if_pos c_12, if_neg c_13, if_neg c_14])).symm.trans hR_8) (by omega) (by first | omega | (dsimp only; omega)) (by first | omega | (dsimp only; omega)) H locs hP hD hS ls (lv_sub hl [0, 4, 5, 6, 7, 8, 9, 10, 11] rfl)
                            · refine lv_iload hx hb dX7_mend_187 (lv_at hl 1 rfl) ?_
                              refine lv_iload hx hb dX7_mend_189 (lv_at hl 6 rfl) ?_
                              refine lv_icmp_ge (tgt := 198) hx hb dX7_mend_191 (by decide) (fun c_15 => ?_) (fun c_15 => ?_)
                              · refine lv_iconst (v := 0) hx hb dX7_mend_198 (by decide) ?_
                                refine lv_istore (lv' := [(13, .int 0), (12, .int (nI (zpc ((mf_becomes m_at t_6 Wd R ((m_at 3) ^^^ (((1 : Int32) <<< ((nI k_7) &&& 31)) ||| ((1 : Int32) <<< ((nI s_8.1) &&& 31)))) (m_at 10)) ^^^ (pic.toInt32 &&& (mf_whole Wd R)))))), (11, .int (((1 : Int32) <<< ((nI k_7) &&& 31)) ||| ((1 : Int32) <<< ((nI s_8.1) &&& 31)))), (10, .int (nI s_8.1)), (9, .int (nI k_7)), (8, .int (nI s_8.2.1)), (7, .int (nI s_8.2.2.1)), (6, .int s_8.2.2.2), (5, .int (mf_free m_at)), (4, .int (pic.toInt32 &&& (mf_whole Wd R))), (0, .ref (ad 0)), (3, .int what)]) hx hb dX7_mend_199 hl (by decide) rfl (fun ls hl => ?_)
                                refine lv_iload hx hb dX7_mend_201 (lv_at hl 0 rfl) ?_
                                refine lv_if_ne (tgt := 209) hx hb dX7_mend_203 (by decide) (fun z => absurd (by decide) z) (fun _ => ?_)
                                refine lv_goto (tgt := 224) hx hb dX7_mend_206 (by decide) ?_
                                refine lv_iinc (v := nI (s_8.1 + 1)) (lv' := [(10, .int (nI (s_8.1 + 1))), (13, .int 0), (12, .int (nI (zpc ((mf_becomes m_at t_6 Wd R ((m_at 3) ^^^ (((1 : Int32) <<< ((nI k_7) &&& 31)) ||| ((1 : Int32) <<< ((nI s_8.1) &&& 31)))) (m_at 10)) ^^^ (pic.toInt32 &&& (mf_whole Wd R)))))), (11, .int (((1 : Int32) <<< ((nI k_7) &&& 31)) ||| ((1 : Int32) <<< ((nI s_8.1) &&& 31)))), (9, .int (nI k_7)), (8, .int (nI s_8.2.1)), (7, .int (nI s_8.2.2.1)), (6, .int s_8.2.2.2), (5, .int (mf_free m_at)), (4, .int (pic.toInt32 &&& (mf_whole Wd R))), (0, .ref (ad 0)), (3, .int what)]) hx hb dX7_mend_224 hl (k := 3) rfl (nI_add s_8.1 1) (by decide) rfl (fun ls hl => ?_)
                                refine lv_goto (tgt := 92) hx hb dX7_mend_227 (by decide) ?_
                                exact ih_8 (s_8.1 + 1, s_8.2.1, s_8.2.2.1, s_8.2.2.2) (by omega) ((zw_l (by rw [mf_mend_B92, if_neg c_9, if_pos c_10, if_neg c_11, if_pos c_12, if_neg c_13, if_pos c_14, if_pos c_15])).symm.trans hR_8) (by omega) (by first | omega | (dsimp only; omega)) (by first | omega | (dsimp only; omega)) H locs hP hD hS ls (lv_sub hl [0, 4, 5, 6, 7, 8, 9, 10, 11] rfl)
                              · refine lv_iconst (v := 1) hx hb dX7_mend_194 (by decide) ?_
                                refine lv_goto (tgt := 199) hx hb dX7_mend_195 (by decide) ?_
                                refine lv_istore (lv' := [(13, .int 1), (12, .int (nI (zpc ((mf_becomes m_at t_6 Wd R ((m_at 3) ^^^ (((1 : Int32) <<< ((nI k_7) &&& 31)) ||| ((1 : Int32) <<< ((nI s_8.1) &&& 31)))) (m_at 10)) ^^^ (pic.toInt32 &&& (mf_whole Wd R)))))), (11, .int (((1 : Int32) <<< ((nI k_7) &&& 31)) ||| ((1 : Int32) <<< ((nI s_8.1) &&& 31)))), (10, .int (nI s_8.1)), (9, .int (nI k_7)), (8, .int (nI s_8.2.1)), (7, .int (nI s_8.2.2.1)), (6, .int s_8.2.2.2), (5, .int (mf_free m_at)), (4, .int (pic.toInt32 &&& (mf_whole Wd R))), (0, .ref (ad 0)), (3, .int what)]) hx hb dX7_mend_199 hl (by decide) rfl (fun ls hl => ?_)
                                refine lv_iload hx hb dX7_mend_201 (lv_at hl 0 rfl) ?_
                                refine lv_if_ne (tgt := 209) hx hb dX7_mend_203 (by decide) (fun _ => ?_) (fun z => absurd z (by decide))
                                refine lv_iload hx hb dX7_mend_209 (lv_at hl 1 rfl) ?_
                                refine lv_istore (lv' := [(7, .int (nI (zpc ((mf_becomes m_at t_6 Wd R ((m_at 3) ^^^ (((1 : Int32) <<< ((nI k_7) &&& 31)) ||| ((1 : Int32) <<< ((nI s_8.1) &&& 31)))) (m_at 10)) ^^^ (pic.toInt32 &&& (mf_whole Wd R)))))), (13, .int 1), (12, .int (nI (zpc ((mf_becomes m_at t_6 Wd R ((m_at 3) ^^^ (((1 : Int32) <<< ((nI k_7) &&& 31)) ||| ((1 : Int32) <<< ((nI s_8.1) &&& 31)))) (m_at 10)) ^^^ (pic.toInt32 &&& (mf_whole Wd R)))))), (11, .int (((1 : Int32) <<< ((nI k_7) &&& 31)) ||| ((1 : Int32) <<< ((nI s_8.1) &&& 31)))), (10, .int (nI s_8.1)), (9, .int (nI k_7)), (8, .int (nI s_8.2.1)), (6, .int s_8.2.2.2), (5, .int (mf_free m_at)), (4, .int (pic.toInt32 &&& (mf_whole Wd R))), (0, .ref (ad 0)), (3, .int what)]) hx hb dX7_mend_211 hl (by decide) rfl (fun ls hl => ?_)
                                refine lv_iload hx hb dX7_mend_213 (lv_at hl 3 rfl) ?_
                                refine zr_puS ⟨hx, hb, hml, hown, hts⟩ (mt_bitsN l (((1 : Int32) <<< ((nI k_7) &&& 31)) ||| ((1 : Int32) <<< ((nI s_8.1) &&& 31)))) (va_cwS 1 hts (lw_S q1744 q1745 q144 q1746) rfl rfl rfl hd_X7_bits.2 ⟨(Nat.le_of_ble_eq_true rfl), (Nat.le_of_ble_eq_true rfl)⟩) rfl hl.1 rfl (Nat.le_of_ble_eq_true rfl) dX7_mend_215 ⟨Nat.le_refl _, Nat.le_refl _⟩ ?_
                                have hbl_4 : (zpc (((1 : Int32) <<< ((nI k_7) &&& 31)) ||| ((1 : Int32) <<< ((nI s_8.1) &&& 31)))) ≤ 32 := zpc_le _
                                refine lv_istore (lv' := [(8, .int (nI (zpc (((1 : Int32) <<< ((nI k_7) &&& 31)) ||| ((1 : Int32) <<< ((nI s_8.1) &&& 31)))))), (7, .int (nI (zpc ((mf_becomes m_at t_6 Wd R ((m_at 3) ^^^ (((1 : Int32) <<< ((nI k_7) &&& 31)) ||| ((1 : Int32) <<< ((nI s_8.1) &&& 31)))) (m_at 10)) ^^^ (pic.toInt32 &&& (mf_whole Wd R)))))), (13, .int 1), (12, .int (nI (zpc ((mf_becomes m_at t_6 Wd R ((m_at 3) ^^^ (((1 : Int32) <<< ((nI k_7) &&& 31)) ||| ((1 : Int32) <<< ((nI s_8.1) &&& 31)))) (m_at 10)) ^^^ (pic.toInt32 &&& (mf_whole Wd R)))))), (11, .int (((1 : Int32) <<< ((nI k_7) &&& 31)) ||| ((1 : Int32) <<< ((nI s_8.1) &&& 31)))), (10, .int (nI s_8.1)), (9, .int (nI k_7)), (6, .int s_8.2.2.2), (5, .int (mf_free m_at)), (4, .int (pic.toInt32 &&& (mf_whole Wd R))), (0, .ref (ad 0)), (3, .int what)]) hx hb dX7_mend_218 hl (by decide) rfl (fun ls hl => ?_)
                                refine lv_iload hx hb dX7_mend_220 (lv_at hl 4 rfl) ?_
                                refine lv_istore (lv' := [(6, .int (((1 : Int32) <<< ((nI k_7) &&& 31)) ||| ((1 : Int32) <<< ((nI s_8.1) &&& 31)))), (8, .int (nI (zpc (((1 : Int32) <<< ((nI k_7) &&& 31)) ||| ((1 : Int32) <<< ((nI s_8.1) &&& 31)))))), (7, .int (nI (zpc ((mf_becomes m_at t_6 Wd R ((m_at 3) ^^^ (((1 : Int32) <<< ((nI k_7) &&& 31)) ||| ((1 : Int32) <<< ((nI s_8.1) &&& 31)))) (m_at 10)) ^^^ (pic.toInt32 &&& (mf_whole Wd R)))))), (13, .int 1), (12, .int (nI (zpc ((mf_becomes m_at t_6 Wd R ((m_at 3) ^^^ (((1 : Int32) <<< ((nI k_7) &&& 31)) ||| ((1 : Int32) <<< ((nI s_8.1) &&& 31)))) (m_at 10)) ^^^ (pic.toInt32 &&& (mf_whole Wd R)))))), (11, .int (((1 : Int32) <<< ((nI k_7) &&& 31)) ||| ((1 : Int32) <<< ((nI s_8.1) &&& 31)))), (10, .int (nI s_8.1)), (9, .int (nI k_7)), (5, .int (mf_free m_at)), (4, .int (pic.toInt32 &&& (mf_whole Wd R))), (0, .ref (ad 0)), (3, .int what)]) hx hb dX7_mend_222 hl (by decide) rfl (fun ls hl => ?_)
                                refine lv_iinc (v := nI (s_8.1 + 1)) (lv' := [(10, .int (nI (s_8.1 + 1))), (6, .int (((1 : Int32) <<< ((nI k_7) &&& 31)) ||| ((1 : Int32) <<< ((nI s_8.1) &&& 31)))), (8, .int (nI (zpc (((1 : Int32) <<< ((nI k_7) &&& 31)) ||| ((1 : Int32) <<< ((nI s_8.1) &&& 31)))))), (7, .int (nI (zpc ((mf_becomes m_at t_6 Wd R ((m_at 3) ^^^ (((1 : Int32) <<< ((nI k_7) &&& 31)) ||| ((1 : Int32) <<< ((nI s_8.1) &&& 31)))) (m_at 10)) ^^^ (pic.toInt32 &&& (mf_whole Wd R)))))), (13, .int 1), (12, .int (nI (zpc ((mf_becomes m_at t_6 Wd R ((m_at 3) ^^^ (((1 : Int32) <<< ((nI k_7) &&& 31)) ||| ((1 : Int32) <<< ((nI s_8.1) &&& 31)))) (m_at 10)) ^^^ (pic.toInt32 &&& (mf_whole Wd R)))))), (11, .int (((1 : Int32) <<< ((nI k_7) &&& 31)) ||| ((1 : Int32) <<< ((nI s_8.1) &&& 31)))), (9, .int (nI k_7)), (5, .int (mf_free m_at)), (4, .int (pic.toInt32 &&& (mf_whole Wd R))), (0, .ref (ad 0)), (3, .int what)]) hx hb dX7_mend_224 hl (k := 6) rfl (nI_add s_8.1 1) (by decide) rfl (fun ls hl => ?_)
                                refine lv_goto (tgt := 92) hx hb dX7_mend_227 (by decide) ?_
                                exact ih_8 (s_8.1 + 1, zpc (((1 : Int32) <<< ((nI k_7) &&& 31)) ||| ((1 : Int32) <<< ((nI s_8.1) &&& 31))), zpc ((mf_becomes m_at t_6 Wd R ((m_at 3) ^^^ (((1 : Int32) <<< ((nI k_7) &&& 31)) ||| ((1 : Int32) <<< ((nI s_8.1) &&& 31)))) (m_at 10)) ^^^ (pic.toInt32 &&& (mf_whole Wd R))), ((1 : Int32) <<< ((nI k_7) &&& 31)) ||| ((1 : Int32) <<< ((nI s_8.1) &&& 31))) (by omega) ((zw_l (by rw [mf_mend_B92, if_neg c_9, if_pos c_10, if_neg c_11, if_pos c_12, if_neg c_13, if_pos c_14, if_neg c_15])).symm.trans hR_8) (by omega) (by first | omega | (dsimp only; omega)) (by first | omega | (dsimp only; omega)) H locs hP hD hS ls (lv_sub hl [0, 7, 2, 3, 1, 8, 9, 10, 11] rfl)
                    · refine lv_goto (tgt := 224) hx hb dX7_mend_122 (by decide) ?_
                      refine lv_iinc (v := nI (s_8.1 + 1)) (lv' := [(10, .int (nI (s_8.1 + 1))), (11, .int (((1 : Int32) <<< ((nI k_7) &&& 31)) ||| ((1 : Int32) <<< ((nI s_8.1) &&& 31)))), (9, .int (nI k_7)), (8, .int (nI s_8.2.1)), (7, .int (nI s_8.2.2.1)), (6, .int s_8.2.2.2), (5, .int (mf_free m_at)), (4, .int (pic.toInt32 &&& (mf_whole Wd R))), (0, .ref (ad 0)), (3, .int what)]) hx hb dX7_mend_224 hl (k := 1) rfl (nI_add s_8.1 1) (by decide) rfl (fun ls hl => ?_)
                      refine lv_goto (tgt := 92) hx hb dX7_mend_227 (by decide) ?_
                      exact ih_8 (s_8.1 + 1, s_8.2.1, s_8.2.2.1, s_8.2.2.2) (by omega) ((zw_l (by rw [mf_mend_B92, if_neg c_9, if_neg c_10])).symm.trans hR_8) (by omega) (by first | omega | (dsimp only; omega)) (by first | omega | (dsimp only; omega)) H locs hP hD hS ls (lv_sub hl [0, 2, 3, 4, 5, 6, 7, 8, 9] rfl)
              exact hlp_8 _ (k_7, s_7.1, s_7.2.1, s_7.2.2) (Nat.lt_succ_self _) (by rw [mf_mend_L92]) (by omega) (by first | omega | (dsimp only; omega)) (by first | omega | (dsimp only; omega)) H locs hP hD hS ls (lv_sub hl [0, 1, 2, 3, 4, 5, 6, 7, 8] rfl)
        exact hlp_7 ((Wd * R) + 1) 0 (0, zpc ((mf_becomes m_at t_6 Wd R (m_at 3) (m_at 10)) ^^^ (pic.toInt32 &&& (mf_whole Wd R))), 0) (Nat.zero_le _) (by omega) rfl (by first | omega | (dsimp only; omega)) (by omega) H locs hP hD hS ls (lv_sub hl [0, 1, 2, 3, 4, 5, 6, 8] rfl)
      · refine lv_aload_n hx hb dX7_mend_20 rfl (lv_at hl 0 rfl) ?_
        refine lv_iconst (v := 1) hx hb dX7_mend_21 (by decide) ?_
        refine zr_muV (F := ()) (ff := fun _ => True) (rr := fun _ => some (.int (-1))) (w1 := fun _ => (mW G ad 1 m_top m_bottom m_taped m_size m_token m_from m_end m_value m_faultKind m_faultPlace m_faults m_seen m_depth m_counted m_lead m_round m_tried m_triedMany m_drawn m_ranSteps m_isTold m_marks m_at m_names m_sort m_trayMany m_trays m_tape m_text m_opened m_beside m_then m_ways m_further m_canBe m_loops m_ran m_told0)) ⟨hx, hb, hml, hown, hts⟩ (mt_mf_refuse l G ad m_status m_top m_bottom m_taped m_size m_token m_from m_end m_value m_faultKind m_faultPlace m_faults m_seen m_depth m_counted m_lead m_round m_tried m_triedMany m_drawn m_ranSteps m_isTold m_marks m_at m_names m_sort m_trayMany m_trays m_tape m_text m_opened m_beside m_then m_ways m_further m_canBe m_loops m_ran m_told0 1 H.size) (cwV 1 hts (lw_V q1666 q1668 qs66 q144 q1669) rfl rfl rfl hd_X7_refuse ⟨(Nat.le_of_ble_eq_true rfl), (Nat.le_of_ble_eq_true rfl)⟩) hP hD hS hA hK hE 0 7 rfl rfl rfl hl.1 rfl (Nat.le_of_ble_eq_true rfl) dX7_mend_22 ⟨Nat.le_refl _, Nat.le_refl _⟩ (fun _ _ _ H locs hP hD hS _ => ?_)
        refine W.eq (g2 := F0 m 25 ls [.int (-1)]) rfl ?_
        have e_ : mf_mend m_at m_beside Wd R pic what = ((-1), 1, m_beside) := by rw [mf_mend, if_pos c_1, if_neg c_3, if_neg c_5]
        exact zr_mi hx hb hr hlocks hP hD hS dX7_mend_25 (by rw [e_])  (by rw [e_]) trivial
def mf_unlike (m_at : Nat → Int32) (Wd : Nat) (R : Nat) (pic : Int64) : Int32 × Int32 :=
  (if (mf_isFrom pic 0 1073741823) = true then
    (nI (zpc (((m_at 3) ^^^ pic.toInt32) &&& (mf_whole Wd R))), 0)
  else
    ((-1), 1))
theorem hd_X7_unlike : yX7_unlike.cls = RX7 ∧ yX7_unlike.cls ≠ "java/lang/invoke/MethodHandle" ∧ yX7_unlike.cls ≠ "java/lang/invoke/VarHandle" ∧ (parseMethodDescriptor yX7_unlike.desc).map (fun d => d.parameters.length) = some 1 := by decide +kernel
set_option maxHeartbeats 4000000 in
set_option maxRecDepth 100000 in
theorem mt_mf_unlike (l : Launch) (G : zG) (ad : Nat → Nat) (m_status : Int32) (m_top : Int64) (m_bottom : Int64) (m_taped : Int32) (m_size : Int32) (m_token : Int32) (m_from : Int32) (m_end : Int32) (m_value : Int32) (m_faultKind : Int32) (m_faultPlace : Int32) (m_faults : Int32) (m_seen : Int32) (m_depth : Int32) (m_counted : Int32) (m_lead : Int32) (m_round : Int32) (m_tried : Int32) (m_triedMany : Int32) (m_drawn : Int32) (m_ranSteps : Int32) (m_isTold : Bool) (m_marks : Int32) (m_at : Nat → Int32) (m_names : Nat → Int64) (m_sort : Nat → Int32) (m_trayMany : Nat → Int32) (m_trays : Nat → Int64) (m_tape : Nat → Int32) (m_text : Nat → Int32) (m_opened : Nat → Int32) (m_beside : Nat → Int32) (m_then : Nat → Int32) (m_ways : Nat → Int64) (m_further : Nat → Int64) (m_canBe : Nat → Int32) (m_loops : Nat → Int32) (m_ran : Nat → Int32) (m_told0 : Nat → Int32) (Wd : Nat) (R : Nat) (nr : Nat) (nc : Nat) (pic : Int64) (hG : mOK m_at Wd R nr nc) (sz : Nat) : Met l yX7_unlike (ws_ yX7_unlike cX7_unlike 3 (some .int)) (zR 3 0 0) (zPm G sz [.ref (ad 0), .long pic] (mW G ad m_status m_top m_bottom m_taped m_size m_token m_from m_end m_value m_faultKind m_faultPlace m_faults m_seen m_depth m_counted m_lead m_round m_tried m_triedMany m_drawn m_ranSteps m_isTold m_marks m_at m_names m_sort m_trayMany m_trays m_tape m_text m_opened m_beside m_then m_ways m_further m_canBe m_loops m_ran m_told0)) (zQm G (True) (some (.int ((mf_unlike m_at Wd R pic).1))) (mW G ad ((mf_unlike m_at Wd R pic).2) m_top m_bottom m_taped m_size m_token m_from m_end m_value m_faultKind m_faultPlace m_faults m_seen m_depth m_counted m_lead m_round m_tried m_triedMany m_drawn m_ranSteps m_isTold m_marks m_at m_names m_sort m_trayMany m_trays m_tape m_text m_opened m_beside m_then m_ways m_further m_canBe m_loops m_ran m_told0) (va_A (mW G ad m_status m_top m_bottom m_taped m_size m_token m_from m_end m_value m_faultKind m_faultPlace m_faults m_seen m_depth m_counted m_lead m_round m_tried m_triedMany m_drawn m_ranSteps m_isTold m_marks m_at m_names m_sort m_trayMany m_trays m_tape m_text m_opened m_beside m_then m_ways m_further m_canBe m_loops m_ran m_told0) sz)) 0 0 (va_A (mW G ad m_status m_top m_bottom m_taped m_size m_token m_from m_end m_value m_faultKind m_faultPlace m_faults m_seen m_depth m_counted m_lead m_round m_tried m_triedMany m_drawn m_ranSteps m_isTold m_marks m_at m_names m_sort m_trayMany m_trays m_tape m_text m_opened m_beside m_then m_ways m_further m_canBe m_loops m_ran m_told0) sz) := by
  refine zr_entM (by decide) (Nat.le_of_ble_eq_true rfl) ?_
  intro p e s m below meth c ⟨hx, hb, hr, hml, hown, hts, hlocks, hnm⟩ ls hl hP hK A hE hA hD hS
  have hown : s.vm.findClass RX7 = some m.cls := hown
  have hl : lv_has ls 3 [(0, .ref (ad 0)), (1, .long pic)] := hl
  obtain ⟨H, hH⟩ : ∃ H, H = s.heap := ⟨_, rfl⟩
  obtain ⟨locs, hlo⟩ : ∃ L : List Loc, L = [] := ⟨_, rfl⟩
  rw [← hH] at hP
  have hS : va_S A s.heap H locs := by rw [hH, hlo]; exact va_S.rf
  have hgo : W p l e (zR 3 0 0) s m ([.ref (ad 0), .long pic] : List Value).toArray below meth c H locs 0 0 (MQ below (zQm G (True) (some (.int ((mf_unlike m_at Wd R pic).1))) (mW G ad ((mf_unlike m_at Wd R pic).2) m_top m_bottom m_taped m_size m_token m_from m_end m_value m_faultKind m_faultPlace m_faults m_seen m_depth m_counted m_lead m_round m_tried m_triedMany m_drawn m_ranSteps m_isTold m_marks m_at m_names m_sort m_trayMany m_trays m_tape m_text m_opened m_beside m_then m_ways m_further m_canBe m_loops m_ran m_told0) A) ([.ref (ad 0), .long pic] : List Value).toArray s 0 0 A) (F0 m 0 ls []) := ?_
  · rw [hH, hlo] at hgo; exact hgo
  clear hH hlo
  have hWR := mOK_WR hG
  have hW0 := mOK_W0 hG
  have hW5 := mOK_W5 hG
  have hR0 := mOK_R0 hG
  have hR6 := mOK_R6 hG
  have hn4 := mOK_n4 hG
  have hc6 := mOK_c6 hG
  refine lv_lload_n hx hb dX7_unlike_0 rfl (lv_at hl 1 rfl) ?_
  refine lv_lconst (v := 0) hx hb dX7_unlike_1 rfl ?_
  refine lv_ldc2 (v := 1073741823) hx hb hown (hts _ q1847) dX7_unlike_2 ?_
  refine zr_puS ⟨hx, hb, hml, hown, hts⟩ (mt_mf_isFrom l pic 0 1073741823) (va_cwS 3 hts (lw_S q1848 q1849 q144 q1850) rfl rfl rfl hd_X7_isFrom.2 ⟨(Nat.le_of_ble_eq_true rfl), (Nat.le_of_ble_eq_true rfl)⟩) rfl hl.1 rfl (Nat.le_of_ble_eq_true rfl) dX7_unlike_5 ⟨Nat.le_refl _, Nat.le_refl _⟩ ?_
  refine zr_eqB (mf_isFrom pic 0 1073741823) (tgt := 35) hx hb dX7_unlike_8 (by decide) (fun c_1 => ?_) (fun c_1 => ?_)
  · refine lv_aload_n hx hb dX7_unlike_35 rfl (lv_at hl 0 rfl) ?_
    refine lv_iconst (v := 1) hx hb dX7_unlike_36 (by decide) ?_
    refine zr_muV (F := ()) (ff := fun _ => True) (rr := fun _ => some (.int (-1))) (w1 := fun _ => (mW G ad 1 m_top m_bottom m_taped m_size m_token m_from m_end m_value m_faultKind m_faultPlace m_faults m_seen m_depth m_counted m_lead m_round m_tried m_triedMany m_drawn m_ranSteps m_isTold m_marks m_at m_names m_sort m_trayMany m_trays m_tape m_text m_opened m_beside m_then m_ways m_further m_canBe m_loops m_ran m_told0)) ⟨hx, hb, hml, hown, hts⟩ (mt_mf_refuse l G ad m_status m_top m_bottom m_taped m_size m_token m_from m_end m_value m_faultKind m_faultPlace m_faults m_seen m_depth m_counted m_lead m_round m_tried m_triedMany m_drawn m_ranSteps m_isTold m_marks m_at m_names m_sort m_trayMany m_trays m_tape m_text m_opened m_beside m_then m_ways m_further m_canBe m_loops m_ran m_told0 1 H.size) (cwV 1 hts (lw_V q1666 q1668 qs66 q144 q1669) rfl rfl rfl hd_X7_refuse ⟨(Nat.le_of_ble_eq_true rfl), (Nat.le_of_ble_eq_true rfl)⟩) hP hD hS hA hK hE 0 7 rfl rfl rfl hl.1 rfl (Nat.le_of_ble_eq_true rfl) dX7_unlike_37 ⟨Nat.le_refl _, Nat.le_refl _⟩ (fun _ _ _ H locs hP hD hS _ => ?_)
    refine W.eq (g2 := F0 m 40 ls [.int (-1)]) rfl ?_
    have e_ : mf_unlike m_at Wd R pic = ((-1), 1) := by rw [mf_unlike, if_neg c_1]
    exact zr_mi hx hb hr hlocks hP hD hS dX7_unlike_40 (by rw [e_])  (by rw [e_]) trivial
  · refine lv_aload_n hx hb dX7_unlike_11 rfl (lv_at hl 0 rfl) ?_
    refine lv_aload_n hx hb dX7_unlike_12 rfl (lv_at hl 0 rfl) ?_
    refine va_get (D := G.1) (ci := 7) (v := .ref (ad 1)) (C := RX7) (T := TX7) (N := 39) hx hb hts in_X7 hown hK.1 hP 0 rfl rfl 0 (Nat.le_of_ble_eq_true rfl) (hts _ q1467) (fun _ h => h) rfl dX7_unlike_13 ?_
    refine lv_iconst (v := 3) hx hb dX7_unlike_16 (by decide) ?_
    refine zr_iald 3 (v := m_at 3) hx hb hK hP 1 rfl rfl (Nat.le_of_ble_eq_true rfl) rfl (by decide) rfl dX7_unlike_17 ?_
    refine lv_lload_n hx hb dX7_unlike_18 rfl (lv_at hl 1 rfl) ?_
    refine lv_l2i hx hb dX7_unlike_19 rfl ?_
    refine lv_ixor hx hb dX7_unlike_20 ?_
    refine lv_aload_n hx hb dX7_unlike_21 rfl (lv_at hl 0 rfl) ?_
    refine zr_obV ⟨hx, hb, hml, hown, hts⟩ (mt_mf_whole l G ad m_status m_top m_bottom m_taped m_size m_token m_from m_end m_value m_faultKind m_faultPlace m_faults m_seen m_depth m_counted m_lead m_round m_tried m_triedMany m_drawn m_ranSteps m_isTold m_marks m_at m_names m_sort m_trayMany m_trays m_tape m_text m_opened m_beside m_then m_ways m_further m_canBe m_loops m_ran m_told0 Wd R nr nc hG) (cwV 0 hts (lw_V q2017 q2019 qs119 q144 q2020) rfl rfl rfl hd_X7_whole ⟨(Nat.le_of_ble_eq_true rfl), (Nat.le_of_ble_eq_true rfl)⟩) hP hK (zE_o hE hS) 0 7 rfl rfl rfl hl.1 rfl (Nat.le_of_ble_eq_true rfl) dX7_unlike_22 ⟨Nat.le_refl _, Nat.le_refl _⟩ ?_
    refine lv_iand hx hb dX7_unlike_25 ?_
    refine zr_puS ⟨hx, hb, hml, hown, hts⟩ (mt_bitsN l (((m_at 3) ^^^ pic.toInt32) &&& (mf_whole Wd R))) (va_cwS 1 hts (lw_S q1744 q1745 q144 q1746) rfl rfl rfl hd_X7_bits.2 ⟨(Nat.le_of_ble_eq_true rfl), (Nat.le_of_ble_eq_true rfl)⟩) rfl hl.1 rfl (Nat.le_of_ble_eq_true rfl) dX7_unlike_26 ⟨Nat.le_refl _, Nat.le_refl _⟩ ?_
    refine zr_muV (F := ()) (ff := fun _ => True) (rr := fun _ => some (.int (nI (zpc (((m_at 3) ^^^ pic.toInt32) &&& (mf_whole Wd R)))))) (w1 := fun _ => (mW G ad 0 m_top m_bottom m_taped m_size m_token m_from m_end m_value m_faultKind m_faultPlace m_faults m_seen m_depth m_counted m_lead m_round m_tried m_triedMany m_drawn m_ranSteps m_isTold m_marks m_at m_names m_sort m_trayMany m_trays m_tape m_text m_opened m_beside m_then m_ways m_further m_canBe m_loops m_ran m_told0)) ⟨hx, hb, hml, hown, hts⟩ (mt_mf_gives l G ad m_status m_top m_bottom m_taped m_size m_token m_from m_end m_value m_faultKind m_faultPlace m_faults m_seen m_depth m_counted m_lead m_round m_tried m_triedMany m_drawn m_ranSteps m_isTold m_marks m_at m_names m_sort m_trayMany m_trays m_tape m_text m_opened m_beside m_then m_ways m_further m_canBe m_loops m_ran m_told0 (nI (zpc (((m_at 3) ^^^ pic.toInt32) &&& (mf_whole Wd R)))) H.size) (cwV 1 hts (lw_V q1751 q1753 qs85 q144 q1754) rfl rfl rfl hd_X7_gives ⟨(Nat.le_of_ble_eq_true rfl), (Nat.le_of_ble_eq_true rfl)⟩) hP hD hS hA hK hE 0 7 rfl rfl rfl hl.1 rfl (Nat.le_of_ble_eq_true rfl) dX7_unlike_29 ⟨Nat.le_refl _, Nat.le_refl _⟩ (fun _ _ _ H locs hP hD hS _ => ?_)
    refine W.eq (g2 := F0 m 32 ls [.int (nI (zpc (((m_at 3) ^^^ pic.toInt32) &&& (mf_whole Wd R))))]) rfl ?_
    refine lv_goto (tgt := 40) hx hb dX7_unlike_32 (by decide) ?_
    have e_ : mf_unlike m_at Wd R pic = (nI (zpc (((m_at 3) ^^^ pic.toInt32) &&& (mf_whole Wd R))), 0) := by rw [mf_unlike, if_pos c_1]
    exact zr_mi hx hb hr hlocks hP hD hS dX7_unlike_40 (by rw [e_])  (by rw [e_]) trivial
