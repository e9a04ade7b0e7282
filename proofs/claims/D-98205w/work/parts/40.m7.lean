def mf_byteAt (zs : Nat) (m_text : Nat → Int32) (kk : Nat) : Int32 :=
  (if zs ≤ kk then
    (-1)
  else
    ((m_text kk) &&& 255))
theorem hd_X7_byteAt : yX7_byteAt.cls = RX7 ∧ yX7_byteAt.cls ≠ "java/lang/invoke/MethodHandle" ∧ yX7_byteAt.cls ≠ "java/lang/invoke/VarHandle" ∧ (parseMethodDescriptor yX7_byteAt.desc).map (fun d => d.parameters.length) = some 1 := by decide +kernel
set_option maxHeartbeats 4000000 in
set_option maxRecDepth 100000 in
theorem mt_mf_byteAt (l : Launch) (G : zG) (ad : Nat → Nat) (m_status : Int32) (m_top : Int64) (m_bottom : Int64) (m_taped : Int32) (zs : Nat) (m_token : Int32) (m_from : Int32) (m_end : Int32) (m_value : Int32) (m_faultKind : Int32) (m_faultPlace : Int32) (m_faults : Int32) (m_seen : Int32) (m_depth : Int32) (m_counted : Int32) (m_lead : Int32) (m_round : Int32) (m_tried : Int32) (m_triedMany : Int32) (m_drawn : Int32) (m_ranSteps : Int32) (m_isTold : Bool) (m_marks : Int32) (m_at : Nat → Int32) (m_names : Nat → Int64) (m_sort : Nat → Int32) (m_trayMany : Nat → Int32) (m_trays : Nat → Int64) (m_tape : Nat → Int32) (m_text : Nat → Int32) (m_opened : Nat → Int32) (m_beside : Nat → Int32) (m_then : Nat → Int32) (m_ways : Nat → Int64) (m_further : Nat → Int64) (m_canBe : Nat → Int32) (m_loops : Nat → Int32) (m_ran : Nat → Int32) (m_told0 : Nat → Int32) (kk : Nat) (hzs : zs ≤ 900) (hkk : kk < 2 ^ 31) : Met l yX7_byteAt (ws_ yX7_byteAt cX7_byteAt 2 (some .int)) (zR 1 0 0) (zPo G [.ref (ad 0), .int (nI kk)] (mW G ad m_status m_top m_bottom m_taped (nI zs) m_token m_from m_end m_value m_faultKind m_faultPlace m_faults m_seen m_depth m_counted m_lead m_round m_tried m_triedMany m_drawn m_ranSteps m_isTold m_marks m_at m_names m_sort m_trayMany m_trays m_tape m_text m_opened m_beside m_then m_ways m_further m_canBe m_loops m_ran m_told0)) (k2_QcV (.int (mf_byteAt zs m_text kk))) 0 0 (fun _ => False) := by
  refine zr_entO (by decide) (Nat.le_of_ble_eq_true rfl) ?_
  intro p e s m below meth c ⟨hx, hb, hr, hml, hown, hts, hlocks, hnm⟩ ls hl hP hK hE
  have hown : s.vm.findClass RX7 = some m.cls := hown
  have hl : lv_has ls 2 [(0, .ref (ad 0)), (1, .int (nI kk))] := hl
  refine lv_iload_n hx hb dX7_byteAt_0 rfl (lv_at hl 1 rfl) ?_
  refine lv_aload_n hx hb dX7_byteAt_1 rfl (lv_at hl 0 rfl) ?_
  refine va_get (D := G.1) (ci := 7) (v := .int (nI zs)) (C := RX7) (T := TX7) (N := 39) hx hb hts in_X7 hown hK.1 hP 0 rfl rfl 11 (Nat.le_of_ble_eq_true rfl) (hts _ q1478) (fun _ h => h) rfl dX7_byteAt_2 ?_
  refine zr_ge kk zs (by omega) (by omega) (tgt := 21) hx hb dX7_byteAt_5 (by decide) (fun c_1 => ?_) (fun c_1 => ?_)
  · refine lv_iconst (v := (-1)) hx hb dX7_byteAt_21 (by decide) ?_
    have e_ : mf_byteAt zs m_text kk = (-1) := by rw [mf_byteAt, if_pos c_1]
    exact zr_oi hx hb hr hlocks dX7_byteAt_22 (congrArg Value.int e_)
  · refine lv_aload_n hx hb dX7_byteAt_8 rfl (lv_at hl 0 rfl) ?_
    refine va_get (D := G.1) (ci := 7) (v := .ref (ad 7)) (C := RX7) (T := TX7) (N := 39) hx hb hts in_X7 hown hK.1 hP 0 rfl rfl 9 (Nat.le_of_ble_eq_true rfl) (hts _ q1476) (fun _ h => h) rfl dX7_byteAt_9 ?_
    refine lv_iload_n hx hb dX7_byteAt_12 rfl (lv_at hl 1 rfl) ?_
    refine zr_bald kk (v := m_text kk) hx hb hK hP 7 rfl rfl (Nat.le_of_ble_eq_true rfl) rfl (by omega) rfl dX7_byteAt_13 ?_
    refine lv_sipush (v := 255) hx hb dX7_byteAt_14 (by decide) ?_
    refine lv_iand hx hb dX7_byteAt_17 ?_
    refine lv_goto (tgt := 22) hx hb dX7_byteAt_18 (by decide) ?_
    have e_ : mf_byteAt zs m_text kk = (m_text kk) &&& 255 := by rw [mf_byteAt, if_neg c_1]
    exact zr_oi hx hb hr hlocks dX7_byteAt_22 (congrArg Value.int e_)
theorem byteAt_lt {m_text : Nat → Int32} {zs kk : Nat} (h : ¬ mf_byteAt zs m_text kk = -1) : kk < zs := by
  rcases Nat.lt_or_ge kk zs with q | q
  · exact q
  · exact absurd (by unfold mf_byteAt; rw [if_pos q]) h
theorem zch_end {e : Nat} (h : ¬ zch 22 e = 32) : ¬ e = 115 := fun q => h (by rw [q]; decide +kernel)
theorem isSmall_ne {x : Int32} (h : mf_isSmall x = true) : ¬ x = -1 := fun q => by rw [q] at h; exact absurd h (by decide)
theorem isDigit_ne {x : Int32} (h : mf_isDigit x = true) : ¬ x = -1 := fun q => by rw [q] at h; exact absurd h (by decide)
def mf_onward_B0 (zs : Nat) (en : Nat) (m_text : Nat → Int32) (s_1 : Nat) : (Nat) ⊕ (Nat) :=
  (if (mf_byteAt zs m_text s_1) = 32 then
    .inl (s_1 + 1)
  else
    (if (mf_byteAt zs m_text s_1) = 10 then
      .inl (s_1 + 1)
    else
      .inr s_1))
def mf_onward_L0 (zs : Nat) (en : Nat) (m_text : Nat → Int32) (s_1 : Nat) : Nat := zw (mf_onward_B0 zs en m_text) (s_1) ((zs - s_1) + 1) s_1
def mf_onward_B81 (zs : Nat) (m_text : Nat → Int32) (t_1 : Nat) (s_14 : Nat) : (Nat) ⊕ (Nat) :=
  (if (mf_isSmall (mf_byteAt zs m_text s_14)) = true then
    .inl (s_14 + 1)
  else
    .inr s_14)
def mf_onward_L81 (zs : Nat) (m_text : Nat → Int32) (t_1 : Nat) (s_14 : Nat) : Nat := zw (mf_onward_B81 zs m_text t_1) (s_14) ((zs - s_14) + 1) s_14
def mf_onward_B128 (zs : Nat) (m_text : Nat → Int32) (t_1 : Nat) (s_11 : Nat × Int32) : (Nat × Int32) ⊕ (Nat × Int32) :=
  (if (mf_isDigit (mf_byteAt zs m_text s_11.1)) = true then
    .inl (s_11.1 + 1, zmin 100000 (((10 * s_11.2) + (mf_byteAt zs m_text s_11.1)) - 48))
  else
    .inr (s_11.1, s_11.2))
def mf_onward_L128 (zs : Nat) (m_text : Nat → Int32) (t_1 : Nat) (s_11 : Nat × Int32) : Nat × Int32 := zw (mf_onward_B128 zs m_text t_1) (s_11) ((zs - s_11.1) + 1) s_11
def mf_onward (zs : Nat) (en : Nat) (m_text : Nat → Int32) : Int32 × Nat × Nat × Int32 :=
  zlet (mf_onward_L0 zs en m_text en) (fun t_1 =>
  (if (mf_byteAt zs m_text t_1) = (-1) then
    (0, t_1, t_1, mf_byteAt zs m_text t_1)
  else
    (if (mf_isSmall (mf_byteAt zs m_text t_1)) = true then
      zlet (mf_onward_L81 zs m_text t_1 t_1) (fun t_14 =>
      (2, t_1, t_14, mf_byteAt zs m_text t_1))
    else
      (if (mf_isDigit (mf_byteAt zs m_text t_1)) = true then
        zlet (mf_onward_L128 zs m_text t_1 (t_1, 0)) (fun t_11 =>
        (if ((nI t_11.1) - (nI t_1)) ≤ 4 then
          (3, t_1, t_11.1, t_11.2)
        else
          (1, t_1, t_11.1, t_11.2)))
      else
        (if (mf_byteAt zs m_text t_1) = 59 then
          (4, t_1, t_1 + 1, mf_byteAt zs m_text t_1)
        else
          (if (mf_byteAt zs m_text t_1) = 60 then
            (4, t_1, t_1 + 1, mf_byteAt zs m_text t_1)
          else
            (if (mf_byteAt zs m_text t_1) = 62 then
              (4, t_1, t_1 + 1, mf_byteAt zs m_text t_1)
            else
              (if (mf_byteAt zs m_text t_1) = 61 then
                (4, t_1, t_1 + 1, mf_byteAt zs m_text t_1)
              else
                (1, t_1, t_1 + 1, mf_byteAt zs m_text t_1)))))))))
theorem hd_X7_onward : yX7_onward.cls = RX7 ∧ yX7_onward.cls ≠ "java/lang/invoke/MethodHandle" ∧ yX7_onward.cls ≠ "java/lang/invoke/VarHandle" ∧ (parseMethodDescriptor yX7_onward.desc).map (fun d => d.parameters.length) = some 0 := by decide +kernel
set_option maxHeartbeats 4000000 in
set_option maxRecDepth 100000 in
theorem mt_mf_onward (l : Launch) (G : zG) (ad : Nat → Nat) (m_status : Int32) (m_top : Int64) (m_bottom : Int64) (m_taped : Int32) (zs : Nat) (m_token : Int32) (fr : Nat) (en : Nat) (m_value : Int32) (m_faultKind : Int32) (m_faultPlace : Int32) (m_faults : Int32) (m_seen : Int32) (m_depth : Int32) (m_counted : Int32) (m_lead : Int32) (m_round : Int32) (m_tried : Int32) (m_triedMany : Int32) (m_drawn : Int32) (m_ranSteps : Int32) (m_isTold : Bool) (m_marks : Int32) (m_at : Nat → Int32) (m_names : Nat → Int64) (m_sort : Nat → Int32) (m_trayMany : Nat → Int32) (m_trays : Nat → Int64) (m_tape : Nat → Int32) (m_text : Nat → Int32) (m_opened : Nat → Int32) (m_beside : Nat → Int32) (m_then : Nat → Int32) (m_ways : Nat → Int64) (m_further : Nat → Int64) (m_canBe : Nat → Int32) (m_loops : Nat → Int32) (m_ran : Nat → Int32) (m_told0 : Nat → Int32) (hzs : zs ≤ 900) (hen : en ≤ zs) (sz : Nat) : Met l yX7_onward (ws_ yX7_onward cX7_onward 2 none) (zR 2 0 0) (zPm G sz [.ref (ad 0)] (mW G ad m_status m_top m_bottom m_taped (nI zs) m_token (nI fr) (nI en) m_value m_faultKind m_faultPlace m_faults m_seen m_depth m_counted m_lead m_round m_tried m_triedMany m_drawn m_ranSteps m_isTold m_marks m_at m_names m_sort m_trayMany m_trays m_tape m_text m_opened m_beside m_then m_ways m_further m_canBe m_loops m_ran m_told0)) (zQm G ((mf_onward zs en m_text).2.2.1 ≤ zs ∧ en ≤ ((mf_onward zs en m_text).2.2.1) ∧ ((mf_onward zs en m_text).2.1) ≤ zs ∧ (((mf_onward zs en m_text).1) = 0 ∨ en < ((mf_onward zs en m_text).2.2.1)) ∧ ((mf_onward zs en m_text).2.1) ≤ ((mf_onward zs en m_text).2.2.1)) none (mW G ad m_status m_top m_bottom m_taped (nI zs) ((mf_onward zs en m_text).1) (nI ((mf_onward zs en m_text).2.1)) (nI ((mf_onward zs en m_text).2.2.1)) ((mf_onward zs en m_text).2.2.2) m_faultKind m_faultPlace m_faults m_seen m_depth m_counted m_lead m_round m_tried m_triedMany m_drawn m_ranSteps m_isTold m_marks m_at m_names m_sort m_trayMany m_trays m_tape m_text m_opened m_beside m_then m_ways m_further m_canBe m_loops m_ran m_told0) (va_A (mW G ad m_status m_top m_bottom m_taped (nI zs) m_token (nI fr) (nI en) m_value m_faultKind m_faultPlace m_faults m_seen m_depth m_counted m_lead m_round m_tried m_triedMany m_drawn m_ranSteps m_isTold m_marks m_at m_names m_sort m_trayMany m_trays m_tape m_text m_opened m_beside m_then m_ways m_further m_canBe m_loops m_ran m_told0) sz)) 0 0 (va_A (mW G ad m_status m_top m_bottom m_taped (nI zs) m_token (nI fr) (nI en) m_value m_faultKind m_faultPlace m_faults m_seen m_depth m_counted m_lead m_round m_tried m_triedMany m_drawn m_ranSteps m_isTold m_marks m_at m_names m_sort m_trayMany m_trays m_tape m_text m_opened m_beside m_then m_ways m_further m_canBe m_loops m_ran m_told0) sz) := by
  refine zr_entM (by decide) (Nat.le_of_ble_eq_true rfl) ?_
  intro p e s m below meth c ⟨hx, hb, hr, hml, hown, hts, hlocks, hnm⟩ ls hl hP hK A hE hA hD hS
  have hown : s.vm.findClass RX7 = some m.cls := hown
  have hl : lv_has ls 2 [(0, .ref (ad 0))] := hl
  obtain ⟨H, hH⟩ : ∃ H, H = s.heap := ⟨_, rfl⟩
  obtain ⟨locs, hlo⟩ : ∃ L : List Loc, L = [] := ⟨_, rfl⟩
  rw [← hH] at hP
  have hS : va_S A s.heap H locs := by rw [hH, hlo]; exact va_S.rf
  have hgo : W p l e (zR 2 0 0) s m ([.ref (ad 0)] : List Value).toArray below meth c H locs 0 0 (MQ below (zQm G ((mf_onward zs en m_text).2.2.1 ≤ zs ∧ en ≤ ((mf_onward zs en m_text).2.2.1) ∧ ((mf_onward zs en m_text).2.1) ≤ zs ∧ (((mf_onward zs en m_text).1) = 0 ∨ en < ((mf_onward zs en m_text).2.2.1)) ∧ ((mf_onward zs en m_text).2.1) ≤ ((mf_onward zs en m_text).2.2.1)) none (mW G ad m_status m_top m_bottom m_taped (nI zs) ((mf_onward zs en m_text).1) (nI ((mf_onward zs en m_text).2.1)) (nI ((mf_onward zs en m_text).2.2.1)) ((mf_onward zs en m_text).2.2.2) m_faultKind m_faultPlace m_faults m_seen m_depth m_counted m_lead m_round m_tried m_triedMany m_drawn m_ranSteps m_isTold m_marks m_at m_names m_sort m_trayMany m_trays m_tape m_text m_opened m_beside m_then m_ways m_further m_canBe m_loops m_ran m_told0) A) ([.ref (ad 0)] : List Value).toArray s 0 0 A) (F0 m 0 ls []) := ?_
  · rw [hH, hlo] at hgo; exact hgo
  clear hH hlo
  have hx_1 : ∀ t_1 : Nat, mf_onward_L0 zs en m_text en = t_1 → en ≤ t_1 → t_1 ≤ zs → ∀ (H : Heap) (locs : List Loc), va_P G.1 zcl (mW G ad m_status m_top m_bottom m_taped (nI zs) m_token (nI fr) (nI t_1) m_value m_faultKind m_faultPlace m_faults m_seen m_depth m_counted m_lead m_round m_tried m_triedMany m_drawn m_ranSteps m_isTold m_marks m_at m_names m_sort m_trayMany m_trays m_tape m_text m_opened m_beside m_then m_ways m_further m_canBe m_loops m_ran m_told0) H → va_D A (mW G ad m_status m_top m_bottom m_taped (nI zs) m_token (nI fr) (nI t_1) m_value m_faultKind m_faultPlace m_faults m_seen m_depth m_counted m_lead m_round m_tried m_triedMany m_drawn m_ranSteps m_isTold m_marks m_at m_names m_sort m_trayMany m_trays m_tape m_text m_opened m_beside m_then m_ways m_further m_canBe m_loops m_ran m_told0) → va_S A s.heap H locs → ∀ ls : Array Slot, lv_has ls 2 [(0, .ref (ad 0))] → W p l e (zR 2 0 0) s m ([.ref (ad 0)] : List Value).toArray below meth c H locs 0 0 (MQ below (zQm G ((mf_onward zs en m_text).2.2.1 ≤ zs ∧ en ≤ ((mf_onward zs en m_text).2.2.1) ∧ ((mf_onward zs en m_text).2.1) ≤ zs ∧ (((mf_onward zs en m_text).1) = 0 ∨ en < ((mf_onward zs en m_text).2.2.1)) ∧ ((mf_onward zs en m_text).2.1) ≤ ((mf_onward zs en m_text).2.2.1)) none (mW G ad m_status m_top m_bottom m_taped (nI zs) ((mf_onward zs en m_text).1) (nI ((mf_onward zs en m_text).2.1)) (nI ((mf_onward zs en m_text).2.2.1)) ((mf_onward zs en m_text).2.2.2) m_faultKind m_faultPlace m_faults m_seen m_depth m_counted m_lead m_round m_tried m_triedMany m_drawn m_ranSteps m_isTold m_marks m_at m_names m_sort m_trayMany m_trays m_tape m_text m_opened m_beside m_then m_ways m_further m_canBe m_loops m_ran m_told0) A) ([.ref (ad 0)] : List Value).toArray s 0 0 A) (F0 m 39 ls []) := by
    intro t_1 ht_1 hx0 okx_1_m_end H locs hP hD hS ls hl
    refine lv_aload_n hx hb dX7_onward_39 rfl (lv_at hl 0 rfl) ?_
    refine lv_aload_n hx hb dX7_onward_40 rfl (lv_at hl 0 rfl) ?_
    refine va_get (D := G.1) (ci := 7) (v := .int (nI t_1)) (C := RX7) (T := TX7) (N := 39) hx hb hts in_X7 hown hK.1 hP 0 rfl rfl 14 (Nat.le_of_ble_eq_true rfl) (hts _ q1481) (fun _ h => h) rfl dX7_onward_41 ?_
    refine va_put (D := G.1) (ci := 7) (v := .int (nI t_1)) (ty := .int) (C := RX7) (T := TX7) (N := 39) hx hb hts in_X7 tyX7 tyX7_ok nmX7 hown hK.1 hP hD hS 0 rfl rfl 13 (Nat.le_of_ble_eq_true rfl) (hts _ q1480) (fun _ h => h) rfl (tyX7_ok 13 (Nat.le_of_ble_eq_true rfl)) rfl rfl (Nat.le_of_ble_eq_true rfl) dX7_onward_44 (fun H locs hP hD hS => ?_)
    have hP : va_P G.1 zcl (mW G ad m_status m_top m_bottom m_taped (nI zs) m_token (nI t_1) (nI t_1) m_value m_faultKind m_faultPlace m_faults m_seen m_depth m_counted m_lead m_round m_tried m_triedMany m_drawn m_ranSteps m_isTold m_marks m_at m_names m_sort m_trayMany m_trays m_tape m_text m_opened m_beside m_then m_ways m_further m_canBe m_loops m_ran m_told0) H := hP
    have hD : va_D A (mW G ad m_status m_top m_bottom m_taped (nI zs) m_token (nI t_1) (nI t_1) m_value m_faultKind m_faultPlace m_faults m_seen m_depth m_counted m_lead m_round m_tried m_triedMany m_drawn m_ranSteps m_isTold m_marks m_at m_names m_sort m_trayMany m_trays m_tape m_text m_opened m_beside m_then m_ways m_further m_canBe m_loops m_ran m_told0) := hD
    refine lv_aload_n hx hb dX7_onward_47 rfl (lv_at hl 0 rfl) ?_
    refine lv_aload_n hx hb dX7_onward_48 rfl (lv_at hl 0 rfl) ?_
    refine va_get (D := G.1) (ci := 7) (v := .int (nI t_1)) (C := RX7) (T := TX7) (N := 39) hx hb hts in_X7 hown hK.1 hP 0 rfl rfl 14 (Nat.le_of_ble_eq_true rfl) (hts _ q1481) (fun _ h => h) rfl dX7_onward_49 ?_
    refine zr_obV ⟨hx, hb, hml, hown, hts⟩ (mt_mf_byteAt l G ad m_status m_top m_bottom m_taped zs m_token (nI t_1) (nI t_1) m_value m_faultKind m_faultPlace m_faults m_seen m_depth m_counted m_lead m_round m_tried m_triedMany m_drawn m_ranSteps m_isTold m_marks m_at m_names m_sort m_trayMany m_trays m_tape m_text m_opened m_beside m_then m_ways m_further m_canBe m_loops m_ran m_told0 t_1 hzs (by omega)) (cwV 1 hts (lw_V q1652 q1654 qs65 q144 q1655) rfl rfl rfl hd_X7_byteAt ⟨(Nat.le_of_ble_eq_true rfl), (Nat.le_of_ble_eq_true rfl)⟩) hP hK (zE_o hE hS) 0 7 rfl rfl rfl hl.1 rfl (Nat.le_of_ble_eq_true rfl) dX7_onward_52 ⟨Nat.le_refl _, Nat.le_refl _⟩ ?_
    refine lv_istore_n (lv' := [(1, .int (mf_byteAt zs m_text t_1)), (0, .ref (ad 0))]) hx hb dX7_onward_55 rfl hl (by decide) rfl (fun ls hl => ?_)
    refine lv_aload_n hx hb dX7_onward_56 rfl (lv_at hl 1 rfl) ?_
    refine lv_iload_n hx hb dX7_onward_57 rfl (lv_at hl 0 rfl) ?_
    refine va_put (D := G.1) (ci := 7) (v := .int (mf_byteAt zs m_text t_1)) (ty := .int) (C := RX7) (T := TX7) (N := 39) hx hb hts in_X7 tyX7 tyX7_ok nmX7 hown hK.1 hP hD hS 0 rfl rfl 15 (Nat.le_of_ble_eq_true rfl) (hts _ q1482) (fun _ h => h) rfl (tyX7_ok 15 (Nat.le_of_ble_eq_true rfl)) rfl rfl (Nat.le_of_ble_eq_true rfl) dX7_onward_58 (fun H locs hP hD hS => ?_)
    have hP : va_P G.1 zcl (mW G ad m_status m_top m_bottom m_taped (nI zs) m_token (nI t_1) (nI t_1) (mf_byteAt zs m_text t_1) m_faultKind m_faultPlace m_faults m_seen m_depth m_counted m_lead m_round m_tried m_triedMany m_drawn m_ranSteps m_isTold m_marks m_at m_names m_sort m_trayMany m_trays m_tape m_text m_opened m_beside m_then m_ways m_further m_canBe m_loops m_ran m_told0) H := hP
    have hD : va_D A (mW G ad m_status m_top m_bottom m_taped (nI zs) m_token (nI t_1) (nI t_1) (mf_byteAt zs m_text t_1) m_faultKind m_faultPlace m_faults m_seen m_depth m_counted m_lead m_round m_tried m_triedMany m_drawn m_ranSteps m_isTold m_marks m_at m_names m_sort m_trayMany m_trays m_tape m_text m_opened m_beside m_then m_ways m_further m_canBe m_loops m_ran m_told0) := hD
    refine lv_iload_n hx hb dX7_onward_61 rfl (lv_at hl 0 rfl) ?_
    refine lv_iconst (v := (-1)) hx hb dX7_onward_62 (by decide) ?_
    refine lv_icmp_ne (tgt := 74) hx hb dX7_onward_63 (by decide) (fun c_4 => ?_) (fun c_4 => ?_)
    · have hlt := byteAt_lt c_4
      refine lv_iload_n hx hb dX7_onward_74 rfl (lv_at hl 0 rfl) ?_
      refine zr_puS ⟨hx, hb, hml, hown, hts⟩ (mt_mf_isSmall l (mf_byteAt zs m_text t_1)) (va_cwS 1 hts (lw_S q1656 q1657 q144 q1658) rfl rfl rfl hd_X7_isSmall.2 ⟨(Nat.le_of_ble_eq_true rfl), (Nat.le_of_ble_eq_true rfl)⟩) rfl hl.1 rfl (Nat.le_of_ble_eq_true rfl) dX7_onward_75 ⟨Nat.le_refl _, Nat.le_refl _⟩ ?_
      refine zr_eqB (mf_isSmall (mf_byteAt zs m_text t_1)) (tgt := 116) hx hb dX7_onward_78 (by decide) (fun c_5 => ?_) (fun c_5 => ?_)
      · refine lv_iload_n hx hb dX7_onward_116 rfl (lv_at hl 0 rfl) ?_
        refine zr_puS ⟨hx, hb, hml, hown, hts⟩ (mt_mf_isDigit l (mf_byteAt zs m_text t_1)) (va_cwS 1 hts (lw_S q1659 q1660 q144 q1661) rfl rfl rfl hd_X7_isDigit.2 ⟨(Nat.le_of_ble_eq_true rfl), (Nat.le_of_ble_eq_true rfl)⟩) rfl hl.1 rfl (Nat.le_of_ble_eq_true rfl) dX7_onward_117 ⟨Nat.le_refl _, Nat.le_refl _⟩ ?_
        refine zr_eqB (mf_isDigit (mf_byteAt zs m_text t_1)) (tgt := 208) hx hb dX7_onward_120 (by decide) (fun c_6 => ?_) (fun c_6 => ?_)
        · refine lv_aload_n hx hb dX7_onward_208 rfl (lv_at hl 1 rfl) ?_
          refine lv_dup hx hb dX7_onward_209 rfl ?_
          refine va_get (D := G.1) (ci := 7) (v := .int (nI t_1)) (C := RX7) (T := TX7) (N := 39) hx hb hts in_X7 hown hK.1 hP 0 rfl rfl 14 (Nat.le_of_ble_eq_true rfl) (hts _ q1481) (fun _ h => h) rfl dX7_onward_210 ?_
          refine lv_iconst (v := 1) hx hb dX7_onward_213 (by decide) ?_
          refine zr_iaddN t_1 1 hx hb dX7_onward_214 ?_
          refine va_put (D := G.1) (ci := 7) (v := .int (nI (t_1 + 1))) (ty := .int) (C := RX7) (T := TX7) (N := 39) hx hb hts in_X7 tyX7 tyX7_ok nmX7 hown hK.1 hP hD hS 0 rfl rfl 14 (Nat.le_of_ble_eq_true rfl) (hts _ q1481) (fun _ h => h) rfl (tyX7_ok 14 (Nat.le_of_ble_eq_true rfl)) rfl rfl (Nat.le_of_ble_eq_true rfl) dX7_onward_215 (fun H locs hP hD hS => ?_)
          have hP : va_P G.1 zcl (mW G ad m_status m_top m_bottom m_taped (nI zs) m_token (nI t_1) (nI (t_1 + 1)) (mf_byteAt zs m_text t_1) m_faultKind m_faultPlace m_faults m_seen m_depth m_counted m_lead m_round m_tried m_triedMany m_drawn m_ranSteps m_isTold m_marks m_at m_names m_sort m_trayMany m_trays m_tape m_text m_opened m_beside m_then m_ways m_further m_canBe m_loops m_ran m_told0) H := hP
          have hD : va_D A (mW G ad m_status m_top m_bottom m_taped (nI zs) m_token (nI t_1) (nI (t_1 + 1)) (mf_byteAt zs m_text t_1) m_faultKind m_faultPlace m_faults m_seen m_depth m_counted m_lead m_round m_tried m_triedMany m_drawn m_ranSteps m_isTold m_marks m_at m_names m_sort m_trayMany m_trays m_tape m_text m_opened m_beside m_then m_ways m_further m_canBe m_loops m_ran m_told0) := hD
          refine lv_aload_n hx hb dX7_onward_218 rfl (lv_at hl 1 rfl) ?_
          refine lv_iload_n hx hb dX7_onward_219 rfl (lv_at hl 0 rfl) ?_
          refine lv_bipush (v := 59) hx hb dX7_onward_220 (by decide) ?_
          refine lv_icmp_eq (tgt := 243) hx hb dX7_onward_222 (by decide) (fun c_7 => ?_) (fun c_7 => ?_)
          · refine lv_iconst (v := 4) hx hb dX7_onward_243 (by decide) ?_
            refine lv_goto (tgt := 248) hx hb dX7_onward_244 (by decide) ?_
            refine va_put (D := G.1) (ci := 7) (v := .int 4) (ty := .int) (C := RX7) (T := TX7) (N := 39) hx hb hts in_X7 tyX7 tyX7_ok nmX7 hown hK.1 hP hD hS 0 rfl rfl 12 (Nat.le_of_ble_eq_true rfl) (hts _ q1479) (fun _ h => h) rfl (tyX7_ok 12 (Nat.le_of_ble_eq_true rfl)) rfl rfl (Nat.le_of_ble_eq_true rfl) dX7_onward_248 (fun H locs hP hD hS => ?_)
            have hP : va_P G.1 zcl (mW G ad m_status m_top m_bottom m_taped (nI zs) 4 (nI t_1) (nI (t_1 + 1)) (mf_byteAt zs m_text t_1) m_faultKind m_faultPlace m_faults m_seen m_depth m_counted m_lead m_round m_tried m_triedMany m_drawn m_ranSteps m_isTold m_marks m_at m_names m_sort m_trayMany m_trays m_tape m_text m_opened m_beside m_then m_ways m_further m_canBe m_loops m_ran m_told0) H := hP
            have hD : va_D A (mW G ad m_status m_top m_bottom m_taped (nI zs) 4 (nI t_1) (nI (t_1 + 1)) (mf_byteAt zs m_text t_1) m_faultKind m_faultPlace m_faults m_seen m_depth m_counted m_lead m_round m_tried m_triedMany m_drawn m_ranSteps m_isTold m_marks m_at m_names m_sort m_trayMany m_trays m_tape m_text m_opened m_beside m_then m_ways m_further m_canBe m_loops m_ran m_told0) := hD
            have e_ : mf_onward zs en m_text = (4, t_1, t_1 + 1, mf_byteAt zs m_text t_1) := by rw [mf_onward, zlet_eq ht_1, if_neg c_4, if_neg c_5, if_neg c_6, if_pos c_7]
            exact zr_mv hx hb hr hlocks hP hD hS dX7_onward_251 rfl (by rw [e_]) (by rw [e_]; exact ⟨(by first | omega | (dsimp only; omega)), (by first | exact Nat.le_refl _ | assumption | omega | (dsimp only; omega)), (by first | rfl | exact Or.inl rfl | exact Or.inl (by assumption) | exact Or.inr (by assumption) | assumption | exact Or.inr (by dsimp only; omega) | omega | (dsimp only; omega) | (dsimp only; assumption)), (by first | rfl | exact Or.inl rfl | exact Or.inl (by assumption) | exact Or.inr (by assumption) | assumption | exact Or.inr (by dsimp only; omega) | omega | (dsimp only; omega) | (dsimp only; assumption)), (by first | rfl | exact Or.inl rfl | exact Or.inl (by assumption) | exact Or.inr (by assumption) | assumption | exact Or.inr (by dsimp only; omega) | omega | (dsimp only; omega) | (dsimp only; assumption))⟩)
          · refine lv_iload_n hx hb dX7_onward_225 rfl (lv_at hl 0 rfl) ?_
            refine lv_bipush (v := 60) hx hb dX7_onward_226 (by decide) ?_
            refine lv_icmp_eq (tgt := 243) hx hb dX7_onward_228 (by decide) (fun c_8 => ?_) (fun c_8 => ?_)
            · refine lv_iconst (v := 4) hx hb dX7_onward_243 (by decide) ?_
              refine lv_goto (tgt := 248) hx hb dX7_onward_244 (by decide) ?_
              refine va_put (D := G.1) (ci := 7) (v := .int 4) (ty := .int) (C := RX7) (T := TX7) (N := 39) hx hb hts in_X7 tyX7 tyX7_ok nmX7 hown hK.1 hP hD hS 0 rfl rfl 12 (Nat.le_of_ble_eq_true rfl) (hts _ q1479) (fun _ h => h) rfl (tyX7_ok 12 (Nat.le_of_ble_eq_true rfl)) rfl rfl (Nat.le_of_ble_eq_true rfl) dX7_onward_248 (fun H locs hP hD hS => ?_)
              have hP : va_P G.1 zcl (mW G ad m_status m_top m_bottom m_taped (nI zs) 4 (nI t_1) (nI (t_1 + 1)) (mf_byteAt zs m_text t_1) m_faultKind m_faultPlace m_faults m_seen m_depth m_counted m_lead m_round m_tried m_triedMany m_drawn m_ranSteps m_isTold m_marks m_at m_names m_sort m_trayMany m_trays m_tape m_text m_opened m_beside m_then m_ways m_further m_canBe m_loops m_ran m_told0) H := hP
              have hD : va_D A (mW G ad m_status m_top m_bottom m_taped (nI zs) 4 (nI t_1) (nI (t_1 + 1)) (mf_byteAt zs m_text t_1) m_faultKind m_faultPlace m_faults m_seen m_depth m_counted m_lead m_round m_tried m_triedMany m_drawn m_ranSteps m_isTold m_marks m_at m_names m_sort m_trayMany m_trays m_tape m_text m_opened m_beside m_then m_ways m_further m_canBe m_loops m_ran m_told0) := hD
              have e_ : mf_onward zs en m_text = (4, t_1, t_1 + 1, mf_byteAt zs m_text t_1) := by rw [mf_onward, zlet_eq ht_1, if_neg c_4, if_neg c_5, if_neg c_6, if_neg c_7, if_pos c_8]
              exact zr_mv hx hb hr hlocks hP hD hS dX7_onward_251 rfl (by rw [e_]) (by rw [e_]; exact ⟨(by first | omega | (dsimp only; omega)), (by first | exact Nat.le_refl _ | assumption | omega | (dsimp only; omega)), (by first | rfl | exact Or.inl rfl | exact Or.inl (by assumption) | exact Or.inr (by assumption) | assumption | exact Or.inr (by dsimp only; omega) | omega | (dsimp only; omega) | (dsimp only; assumption)), (by first | rfl | exact Or.inl rfl | exact Or.inl (by assumption) | exact Or.inr (by assumption) | assumption | exact Or.inr (by dsimp only; omega) | omega | (dsimp only; omega) | (dsimp only; assumption)), (by first | rfl | exact Or.inl rfl | exact Or.inl (by assumption) | exact Or.inr (by assumption) | assumption | exact Or.inr (by dsimp only; omega) | omega | (dsimp only; omega) | (dsimp only; assumption))⟩)
            · refine lv_iload_n hx hb dX7_onward_231 rfl (lv_at hl 0 rfl) ?_
              refine lv_bipush (v := 62) hx hb dX7_onward_232 (by decide) ?_
              refine lv_icmp_eq (tgt := 243) hx hb dX7_onward_234 (by decide) (fun c_9 => ?_) (fun c_9 => ?_)
              · refine lv_iconst (v := 4) hx hb dX7_onward_243 (by decide) ?_
                refine lv_goto (tgt := 248) hx hb dX7_onward_244 (by decide) ?_
                refine va_put (D := G.1) (ci := 7) (v := .int 4) (ty := .int) (C := RX7) (T := TX7) (N := 39) hx hb hts in_X7 tyX7 tyX7_ok nmX7 hown hK.1 hP hD hS 0 rfl rfl 12 (Nat.le_of_ble_eq_true rfl) (hts _ q1479) (fun _ h => h) rfl (tyX7_ok 12 (Nat.le_of_ble_eq_true rfl)) rfl rfl (Nat.le_of_ble_eq_true rfl) dX7_onward_248 (fun H locs hP hD hS => ?_)
                have hP : va_P G.1 zcl (mW G ad m_status m_top m_bottom m_taped (nI zs) 4 (nI t_1) (nI (t_1 + 1)) (mf_byteAt zs m_text t_1) m_faultKind m_faultPlace m_faults m_seen m_depth m_counted m_lead m_round m_tried m_triedMany m_drawn m_ranSteps m_isTold m_marks m_at m_names m_sort m_trayMany m_trays m_tape m_text m_opened m_beside m_then m_ways m_further m_canBe m_loops m_ran m_told0) H := hP
                have hD : va_D A (mW G ad m_status m_top m_bottom m_taped (nI zs) 4 (nI t_1) (nI (t_1 + 1)) (mf_byteAt zs m_text t_1) m_faultKind m_faultPlace m_faults m_seen m_depth m_counted m_lead m_round m_tried m_triedMany m_drawn m_ranSteps m_isTold m_marks m_at m_names m_sort m_trayMany m_trays m_tape m_text m_opened m_beside m_then m_ways m_further m_canBe m_loops m_ran m_told0) := hD
                have e_ : mf_onward zs en m_text = (4, t_1, t_1 + 1, mf_byteAt zs m_text t_1) := by rw [mf_onward, zlet_eq ht_1, if_neg c_4, if_neg c_5, if_neg c_6, if_neg c_7, if_neg c_8, if_pos c_9]
                exact zr_mv hx hb hr hlocks hP hD hS dX7_onward_251 rfl (by rw [e_]) (by rw [e_]; exact ⟨(by first | omega | (dsimp only; omega)), (by first | exact Nat.le_refl _ | assumption | omega | (dsimp only; omega)), (by first | rfl | exact Or.inl rfl | exact Or.inl (by assumption) | exact Or.inr (by assumption) | assumption | exact Or.inr (by dsimp only; omega) | omega | (dsimp only; omega) | (dsimp only; assumption)), (by first | rfl | exact Or.inl rfl | exact Or.inl (by assumption) | exact Or.inr (by assumption) | assumption | exact Or.inr (by dsimp only; omega) | omega | (dsimp only; omega) | (dsimp only; assumption)), (by first | rfl | exact Or.inl rfl | exact Or.inl (by assumption) | exact Or.inr (by assumption) | assumption | exact Or.inr (by dsimp only; omega) | omega | (dsimp only; omega) | (dsimp only; assumption))⟩)
              · refine lv_iload_n hx hb dX7_onward_237 rfl (lv_at hl 0 rfl) ?_
                refine lv_bipush (v := 61) hx hb dX7_onward_238 (by decide) ?_
                refine lv_icmp_ne (tgt := 247) hx hb dX7_onward_240 (by decide) (fun c_10 => ?_) (fun c_10 => ?_)
                · refine lv_iconst (v := 1) hx hb dX7_onward_247 (by decide) ?_
                  refine va_put (D := G.1) (ci := 7) (v := .int 1) (ty := .int) (C := RX7) (T := TX7) (N := 39) hx hb hts in_X7 tyX7 tyX7_ok nmX7 hown hK.1 hP hD hS 0 rfl rfl 12 (Nat.le_of_ble_eq_true rfl) (hts _ q1479) (fun _ h => h) rfl (tyX7_ok 12 (Nat.le_of_ble_eq_true rfl)) rfl rfl (Nat.le_of_ble_eq_true rfl) dX7_onward_248 (fun H locs hP hD hS => ?_)
                  have hP : va_P G.1 zcl (mW G ad m_status m_top m_bottom m_taped (nI zs) 1 (nI t_1) (nI (t_1 + 1)) (mf_byteAt zs m_text t_1) m_faultKind m_faultPlace m_faults m_seen m_depth m_counted m_lead m_round m_tried m_triedMany m_drawn m_ranSteps m_isTold m_marks m_at m_names m_sort m_trayMany m_trays m_tape m_text m_opened m_beside m_then m_ways m_further m_canBe m_loops m_ran m_told0) H := hP
                  have hD : va_D A (mW G ad m_status m_top m_bottom m_taped (nI zs) 1 (nI t_1) (nI (t_1 + 1)) (mf_byteAt zs m_text t_1) m_faultKind m_faultPlace m_faults m_seen m_depth m_counted m_lead m_round m_tried m_triedMany m_drawn m_ranSteps m_isTold m_marks m_at m_names m_sort m_trayMany m_trays m_tape m_text m_opened m_beside m_then m_ways m_further m_canBe m_loops m_ran m_told0) := hD
                  have e_ : mf_onward zs en m_text = (1, t_1, t_1 + 1, mf_byteAt zs m_text t_1) := by rw [mf_onward, zlet_eq ht_1, if_neg c_4, if_neg c_5, if_neg c_6, if_neg c_7, if_neg c_8, if_neg c_9, if_neg c_10]
                  exact zr_mv hx hb hr hlocks hP hD hS dX7_onward_251 rfl (by rw [e_]) (by rw [e_]; exact ⟨(by first | omega | (dsimp only; omega)), (by first | exact Nat.le_refl _ | assumption | omega | (dsimp only; omega)), (by first | rfl | exact Or.inl rfl | exact Or.inl (by assumption) | exact Or.inr (by assumption) | assumption | exact Or.inr (by dsimp only; omega) | omega | (dsimp only; omega) | (dsimp only; assumption)), (by first | rfl | exact Or.inl rfl | exact Or.inl (by assumption) | exact Or.inr (by assumption) | assumption | exact Or.inr (by dsimp only; omega) | omega | (dsimp only; omega) | (dsimp only; assumption)), (by first | rfl | exact Or.inl rfl | exact Or.inl (by assumption) | exact Or.inr (by assumption) | assumption | exact Or.inr (by dsimp only; omega) | omega | (dsimp only; omega) | (dsimp only; assumption))⟩)
                · refine lv_iconst (v := 4) hx hb dX7_onward_243 (by decide) ?_
                  refine lv_goto (tgt := 248) hx hb dX7_onward_244 (by decide) ?_
                  refine va_put (D := G.1) (ci := 7) (v := .int 4) (ty := .int) (C := RX7) (T := TX7) (N := 39) hx hb hts in_X7 tyX7 tyX7_ok nmX7 hown hK.1 hP hD hS 0 rfl rfl 12 (Nat.le_of_ble_eq_true rfl) (hts _ q1479) (fun _ h => h) rfl (tyX7_ok 12 (Nat.le_of_ble_eq_true rfl)) rfl rfl (Nat.le_of_ble_eq_true rfl) dX7_onward_248 (fun H locs hP hD hS => ?_)
                  have hP : va_P G.1 zcl (mW G ad m_status m_top m_bottom m_taped (nI zs) 4 (nI t_1) (nI (t_1 + 1)) (mf_byteAt zs m_text t_1) m_faultKind m_faultPlace m_faults m_seen m_depth m_counted m_lead m_round m_tried m_triedMany m_drawn m_ranSteps m_isTold m_marks m_at m_names m_sort m_trayMany m_trays m_tape m_text m_opened m_beside m_then m_ways m_further m_canBe m_loops m_ran m_told0) H := hP
                  have hD : va_D A (mW G ad m_status m_top m_bottom m_taped (nI zs) 4 (nI t_1) (nI (t_1 + 1)) (mf_byteAt zs m_text t_1) m_faultKind m_faultPlace m_faults m_seen m_depth m_counted m_lead m_round m_tried m_triedMany m_drawn m_ranSteps m_isTold m_marks m_at m_names m_sort m_trayMany m_trays m_tape m_text m_opened m_beside m_then m_ways m_further m_canBe m_loops m_ran m_told0) := hD
                  have e_ : mf_onward zs en m_text = (4, t_1, t_1 + 1, mf_byteAt zs m_text t_1) := by rw [mf_onward, zlet_eq ht_1, if_neg c_4, if_neg c_5, if_neg c_6, if_neg c_7, if_neg c_8, if_neg c_9, if_pos c_10]
                  exact zr_mv hx hb hr hlocks hP hD hS dX7_onward_251 rfl (by rw [e_]) (by rw [e_]; exact ⟨(by first | omega | (dsimp only; omega)), (by first | exact Nat.le_refl _ | assumption | omega | (dsimp only; omega)), (by first | rfl | exact Or.inl rfl | exact Or.inl (by assumption) | exact Or.inr (by assumption) | assumption | exact Or.inr (by dsimp only; omega) | omega | (dsimp only; omega) | (dsimp only; assumption)), (by first | rfl | exact Or.inl rfl | exact Or.inl (by assumption) | exact Or.inr (by assumption) | assumption | exact Or.inr (by dsimp only; omega) | omega | (dsimp only; omega) | (dsimp only; assumption)), (by first | rfl | exact Or.inl rfl | exact Or.inl (by assumption) | exact Or.inr (by assumption) | assumption | exact Or.inr (by dsimp only; omega) | omega | (dsimp only; omega) | (dsimp only; assumption))⟩)
        · refine lv_aload_n hx hb dX7_onward_123 rfl (lv_at hl 1 rfl) ?_
          refine lv_iconst (v := 0) hx hb dX7_onward_124 (by decide) ?_
          refine va_put (D := G.1) (ci := 7) (v := .int 0) (ty := .int) (C := RX7) (T := TX7) (N := 39) hx hb hts in_X7 tyX7 tyX7_ok nmX7 hown hK.1 hP hD hS 0 rfl rfl 15 (Nat.le_of_ble_eq_true rfl) (hts _ q1482) (fun _ h => h) rfl (tyX7_ok 15 (Nat.le_of_ble_eq_true rfl)) rfl rfl (Nat.le_of_ble_eq_true rfl) dX7_onward_125 (fun H locs hP hD hS => ?_)
          have hP : va_P G.1 zcl (mW G ad m_status m_top m_bottom m_taped (nI zs) m_token (nI t_1) (nI t_1) 0 m_faultKind m_faultPlace m_faults m_seen m_depth m_counted m_lead m_round m_tried m_triedMany m_drawn m_ranSteps m_isTold m_marks m_at m_names m_sort m_trayMany m_trays m_tape m_text m_opened m_beside m_then m_ways m_further m_canBe m_loops m_ran m_told0) H := hP
          have hD : va_D A (mW G ad m_status m_top m_bottom m_taped (nI zs) m_token (nI t_1) (nI t_1) 0 m_faultKind m_faultPlace m_faults m_seen m_depth m_counted m_lead m_round m_tried m_triedMany m_drawn m_ranSteps m_isTold m_marks m_at m_names m_sort m_trayMany m_trays m_tape m_text m_opened m_beside m_then m_ways m_further m_canBe m_loops m_ran m_told0) := hD
          have hx_11 : ∀ t_11 : Nat × Int32, mf_onward_L128 zs m_text t_1 (t_1, 0) = t_11 → t_1 < t_11.1 → t_11.1 ≤ zs → ∀ (H : Heap) (locs : List Loc), va_P G.1 zcl (mW G ad m_status m_top m_bottom m_taped (nI zs) m_token (nI t_1) (nI t_11.1) t_11.2 m_faultKind m_faultPlace m_faults m_seen m_depth m_counted m_lead m_round m_tried m_triedMany m_drawn m_ranSteps m_isTold m_marks m_at m_names m_sort m_trayMany m_trays m_tape m_text m_opened m_beside m_then m_ways m_further m_canBe m_loops m_ran m_told0) H → va_D A (mW G ad m_status m_top m_bottom m_taped (nI zs) m_token (nI t_1) (nI t_11.1) t_11.2 m_faultKind m_faultPlace m_faults m_seen m_depth m_counted m_lead m_round m_tried m_triedMany m_drawn m_ranSteps m_isTold m_marks m_at m_names m_sort m_trayMany m_trays m_tape m_text m_opened m_beside m_then m_ways m_further m_canBe m_loops m_ran m_told0) → va_S A s.heap H locs → ∀ ls : Array Slot, lv_has ls 2 [(0, .ref (ad 0))] → W p l e (zR 2 0 0) s m ([.ref (ad 0)] : List Value).toArray below meth c H locs 0 0 (MQ below (zQm G ((mf_onward zs en m_text).2.2.1 ≤ zs ∧ en ≤ ((mf_onward zs en m_text).2.2.1) ∧ ((mf_onward zs en m_text).2.1) ≤ zs ∧ (((mf_onward zs en m_text).1) = 0 ∨ en < ((mf_onward zs en m_text).2.2.1)) ∧ ((mf_onward zs en m_text).2.1) ≤ ((mf_onward zs en m_text).2.2.1)) none (mW G ad m_status m_top m_bottom m_taped (nI zs) ((mf_onward zs en m_text).1) (nI ((mf_onward zs en m_text).2.1)) (nI ((mf_onward zs en m_text).2.2.1)) ((mf_onward zs en m_text).2.2.2) m_faultKind m_faultPlace m_faults m_seen m_depth m_counted m_lead m_round m_tried m_triedMany m_drawn m_ranSteps m_isTold m_marks m_at m_names m_sort m_trayMany m_trays m_tape m_text m_opened m_beside m_then m_ways m_further m_canBe m_loops m_ran m_told0) A) ([.ref (ad 0)] : List Value).toArray s 0 0 A) (F0 m 183 ls []) := by
            intro t_11 ht_11 hx2 okx_11_m_end H locs hP hD hS ls hl
            refine lv_aload_n hx hb dX7_onward_183 rfl (lv_at hl 0 rfl) ?_
            refine lv_aload_n hx hb dX7_onward_184 rfl (lv_at hl 0 rfl) ?_
            refine va_get (D := G.1) (ci := 7) (v := .int (nI t_11.1)) (C := RX7) (T := TX7) (N := 39) hx hb hts in_X7 hown hK.1 hP 0 rfl rfl 14 (Nat.le_of_ble_eq_true rfl) (hts _ q1481) (fun _ h => h) rfl dX7_onward_185 ?_
            refine lv_aload_n hx hb dX7_onward_188 rfl (lv_at hl 0 rfl) ?_
            refine va_get (D := G.1) (ci := 7) (v := .int (nI t_1)) (C := RX7) (T := TX7) (N := 39) hx hb hts in_X7 hown hK.1 hP 0 rfl rfl 13 (Nat.le_of_ble_eq_true rfl) (hts _ q1480) (fun _ h => h) rfl dX7_onward_189 ?_
            refine lv_isub hx hb dX7_onward_192 ?_
            refine lv_iconst (v := 4) hx hb dX7_onward_193 (by decide) ?_
            refine lv_icmp_le (tgt := 201) hx hb dX7_onward_194 (by decide) (fun c_13 => ?_) (fun c_13 => ?_)
            · refine lv_iconst (v := 3) hx hb dX7_onward_201 (by decide) ?_
              refine va_put (D := G.1) (ci := 7) (v := .int 3) (ty := .int) (C := RX7) (T := TX7) (N := 39) hx hb hts in_X7 tyX7 tyX7_ok nmX7 hown hK.1 hP hD hS 0 rfl rfl 12 (Nat.le_of_ble_eq_true rfl) (hts _ q1479) (fun _ h => h) rfl (tyX7_ok 12 (Nat.le_of_ble_eq_true rfl)) rfl rfl (Nat.le_of_ble_eq_true rfl) dX7_onward_202 (fun H locs hP hD hS => ?_)
              have hP : va_P G.1 zcl (mW G ad m_status m_top m_bottom m_taped (nI zs) 3 (nI t_1) (nI t_11.1) t_11.2 m_faultKind m_faultPlace m_faults m_seen m_depth m_counted m_lead m_round m_tried m_triedMany m_drawn m_ranSteps m_isTold m_marks m_at m_names m_sort m_trayMany m_trays m_tape m_text m_opened m_beside m_then m_ways m_further m_canBe m_loops m_ran m_told0) H := hP
              have hD : va_D A (mW G ad m_status m_top m_bottom m_taped (nI zs) 3 (nI t_1) (nI t_11.1) t_11.2 m_faultKind m_faultPlace m_faults m_seen m_depth m_counted m_lead m_round m_tried m_triedMany m_drawn m_ranSteps m_isTold m_marks m_at m_names m_sort m_trayMany m_trays m_tape m_text m_opened m_beside m_then m_ways m_further m_canBe m_loops m_ran m_told0) := hD
              refine lv_goto (tgt := 251) hx hb dX7_onward_205 (by decide) ?_
              have e_ : mf_onward zs en m_text = (3, t_1, t_11.1, t_11.2) := by rw [mf_onward, zlet_eq ht_1, if_neg c_4, if_neg c_5, if_pos c_6, zlet_eq ht_11, if_pos c_13]
              exact zr_mv hx hb hr hlocks hP hD hS dX7_onward_251 rfl (by rw [e_]) (by rw [e_]; exact ⟨okx_11_m_end, (by first | exact Nat.le_refl _ | assumption | omega | (dsimp only; omega)), (by first | rfl | exact Or.inl rfl | exact Or.inl (by assumption) | exact Or.inr (by assumption) | assumption | exact Or.inr (by dsimp only; omega) | omega | (dsimp only; omega) | (dsimp only; assumption)), (by first | rfl | exact Or.inl rfl | exact Or.inl (by assumption) | exact Or.inr (by assumption) | assumption | exact Or.inr (by dsimp only; omega) | omega | (dsimp only; omega) | (dsimp only; assumption)), (by first | rfl | exact Or.inl rfl | exact Or.inl (by assumption) | exact Or.inr (by assumption) | assumption | exact Or.inr (by dsimp only; omega) | omega | (dsimp only; omega) | (dsimp only; assumption))⟩)
            · refine lv_iconst (v := 1) hx hb dX7_onward_197 (by decide) ?_
              refine lv_goto (tgt := 202) hx hb dX7_onward_198 (by decide) ?_
              refine va_put (D := G.1) (ci := 7) (v := .int 1) (ty := .int) (C := RX7) (T := TX7) (N := 39) hx hb hts in_X7 tyX7 tyX7_ok nmX7 hown hK.1 hP hD hS 0 rfl rfl 12 (Nat.le_of_ble_eq_true rfl) (hts _ q1479) (fun _ h => h) rfl (tyX7_ok 12 (Nat.le_of_ble_eq_true rfl)) rfl rfl (Nat.le_of_ble_eq_true rfl) dX7_onward_202 (fun H locs hP hD hS => ?_)
              have hP : va_P G.1 zcl (mW G ad m_status m_top m_bottom m_taped (nI zs) 1 (nI t_1) (nI t_11.1) t_11.2 m_faultKind m_faultPlace m_faults m_seen m_depth m_counted m_lead m_round m_tried m_triedMany m_drawn m_ranSteps m_isTold m_marks m_at m_names m_sort m_trayMany m_trays m_tape m_text m_opened m_beside m_then m_ways m_further m_canBe m_loops m_ran m_told0) H := hP
              have hD : va_D A (mW G ad m_status m_top m_bottom m_taped (nI zs) 1 (nI t_1) (nI t_11.1) t_11.2 m_faultKind m_faultPlace m_faults m_seen m_depth m_counted m_lead m_round m_tried m_triedMany m_drawn m_ranSteps m_isTold m_marks m_at m_names m_sort m_trayMany m_trays m_tape m_text m_opened m_beside m_then m_ways m_further m_canBe m_loops m_ran m_told0) := hD
              refine lv_goto (tgt := 251) hx hb dX7_onward_205 (by decide) ?_
              have e_ : mf_onward zs en m_text = (1, t_1, t_11.1, t_11.2) := by rw [mf_onward, zlet_eq ht_1, if_neg c_4, if_neg c_5, if_pos c_6, zlet_eq ht_11, if_neg c_13]
              exact zr_mv hx hb hr hlocks hP hD hS dX7_onward_251 rfl (by rw [e_]) (by rw [e_]; exact ⟨okx_11_m_end, (by first | exact Nat.le_refl _ | assumption | omega | (dsimp only; omega)), (by first | rfl | exact Or.inl rfl | exact Or.inl (by assumption) | exact Or.inr (by assumption) | assumption | exact Or.inr (by dsimp only; omega) | omega | (dsimp only; omega) | (dsimp only; assumption)), (by first | rfl | exact Or.inl rfl | exact Or.inl (by assumption) | exact Or.inr (by assumption) | assumption | exact Or.inr (by dsimp only; omega) | omega | (dsimp only; omega) | (dsimp only; assumption)), (by first | rfl | exact Or.inl rfl | exact Or.inl (by assumption) | exact Or.inr (by assumption) | assumption | exact Or.inr (by dsimp only; omega) | omega | (dsimp only; omega) | (dsimp only; assumption))⟩)
          have hlp_11 : ∀ (n : Nat) (s_11 : Nat × Int32), zs - s_11.1 < n → zw (mf_onward_B128 zs m_text t_1) (t_1, 0) n s_11 = mf_onward_L128 zs m_text t_1 (t_1, 0) → t_1 ≤ s_11.1 → s_11.1 ≤ zs → ∀ (H : Heap) (locs : List Loc), va_P G.1 zcl (mW G ad m_status m_top m_bottom m_taped (nI zs) m_token (nI t_1) (nI s_11.1) s_11.2 m_faultKind m_faultPlace m_faults m_seen m_depth m_counted m_lead m_round m_tried m_triedMany m_drawn m_ranSteps m_isTold m_marks m_at m_names m_sort m_trayMany m_trays m_tape m_text m_opened m_beside m_then m_ways m_further m_canBe m_loops m_ran m_told0) H → va_D A (mW G ad m_status m_top m_bottom m_taped (nI zs) m_token (nI t_1) (nI s_11.1) s_11.2 m_faultKind m_faultPlace m_faults m_seen m_depth m_counted m_lead m_round m_tried m_triedMany m_drawn m_ranSteps m_isTold m_marks m_at m_names m_sort m_trayMany m_trays m_tape m_text m_opened m_beside m_then m_ways m_further m_canBe m_loops m_ran m_told0) → va_S A s.heap H locs → ∀ ls : Array Slot, lv_has ls 2 [(0, .ref (ad 0))] → W p l e (zR 2 0 0) s m ([.ref (ad 0)] : List Value).toArray below meth c H locs 0 0 (MQ below (zQm G ((mf_onward zs en m_text).2.2.1 ≤ zs ∧ en ≤ ((mf_onward zs en m_text).2.2.1) ∧ ((mf_onward zs en m_text).2.1) ≤ zs ∧ (((mf_onward zs en m_text).1) = 0 ∨ en < ((mf_onward zs en m_text).2.2.1)) ∧ ((mf_onward zs en m_text).2.1) ≤ ((mf_onward zs en m_text).2.2.1)) none (mW G ad m_status m_top m_bottom m_taped (nI zs) ((mf_onward zs en m_text).1) (nI ((mf_onward zs en m_text).2.1)) (nI ((mf_onward zs en m_text).2.2.1)) ((mf_onward zs en m_text).2.2.2) m_faultKind m_faultPlace m_faults m_seen m_depth m_counted m_lead m_round m_tried m_triedMany m_drawn m_ranSteps m_isTold m_marks m_at m_names m_sort m_trayMany m_trays m_tape m_text m_opened m_beside m_then m_ways m_further m_canBe m_loops m_ran m_told0) A) ([.ref (ad 0)] : List Value).toArray s 0 0 A) (F0 m 128 ls []) := by
            intro n
            induction n with
            | zero => exact fun _ h => absurd h (Nat.not_lt_zero _)
            | succ n ih_11 =>
              intro s_11 hmu_11 hR_11 hi2 ok_11_m_end H locs hP hD hS ls hl
              refine lv_aload_n hx hb dX7_onward_128 rfl (lv_at hl 0 rfl) ?_
              refine lv_aload_n hx hb dX7_onward_129 rfl (lv_at hl 0 rfl) ?_
              refine va_get (D := G.1) (ci := 7) (v := .int (nI s_11.1)) (C := RX7) (T := TX7) (N := 39) hx hb hts in_X7 hown hK.1 hP 0 rfl rfl 14 (Nat.le_of_ble_eq_true rfl) (hts _ q1481) (fun _ h => h) rfl dX7_onward_130 ?_
              refine zr_obV ⟨hx, hb, hml, hown, hts⟩ (mt_mf_byteAt l G ad m_status m_top m_bottom m_taped zs m_token (nI t_1) (nI s_11.1) s_11.2 m_faultKind m_faultPlace m_faults m_seen m_depth m_counted m_lead m_round m_tried m_triedMany m_drawn m_ranSteps m_isTold m_marks m_at m_names m_sort m_trayMany m_trays m_tape m_text m_opened m_beside m_then m_ways m_further m_canBe m_loops m_ran m_told0 s_11.1 hzs (by omega)) (cwV 1 hts (lw_V q1652 q1654 qs65 q144 q1655) rfl rfl rfl hd_X7_byteAt ⟨(Nat.le_of_ble_eq_true rfl), (Nat.le_of_ble_eq_true rfl)⟩) hP hK (zE_o hE hS) 0 7 rfl rfl rfl hl.1 rfl (Nat.le_of_ble_eq_true rfl) dX7_onward_133 ⟨Nat.le_refl _, Nat.le_refl _⟩ ?_
              refine zr_puS ⟨hx, hb, hml, hown, hts⟩ (mt_mf_isDigit l (mf_byteAt zs m_text s_11.1)) (va_cwS 1 hts (lw_S q1659 q1660 q144 q1661) rfl rfl rfl hd_X7_isDigit.2 ⟨(Nat.le_of_ble_eq_true rfl), (Nat.le_of_ble_eq_true rfl)⟩) rfl hl.1 rfl (Nat.le_of_ble_eq_true rfl) dX7_onward_136 ⟨Nat.le_refl _, Nat.le_refl _⟩ ?_
              refine zr_eqB (mf_isDigit (mf_byteAt zs m_text s_11.1)) (tgt := 183) hx hb dX7_onward_139 (by decide) (fun c_12 => ?_) (fun c_12 => ?_)
              · exact hx_11 (s_11.1, s_11.2) (hR_11.symm.trans (zw_r (by rw [mf_onward_B128, if_neg c_12]))) (Nat.lt_of_le_of_ne hi2 (fun q => (show ¬ mf_isDigit (mf_byteAt zs m_text s_11.1) = true by assumption) (q ▸ (show mf_isDigit (mf_byteAt zs m_text t_1) = true by assumption)))) ok_11_m_end H locs hP hD hS ls (lv_sub hl [0] rfl)
              · have hlt2 := byteAt_lt (isDigit_ne c_12)
                refine lv_aload_n hx hb dX7_onward_142 rfl (lv_at hl 0 rfl) ?_
                refine lv_ldc (v := 100000) hx hb hown (hts _ q1662) dX7_onward_143 ?_
                refine lv_bipush (v := 10) hx hb dX7_onward_145 (by decide) ?_
                refine lv_aload_n hx hb dX7_onward_147 rfl (lv_at hl 0 rfl) ?_
                refine va_get (D := G.1) (ci := 7) (v := .int s_11.2) (C := RX7) (T := TX7) (N := 39) hx hb hts in_X7 hown hK.1 hP 0 rfl rfl 15 (Nat.le_of_ble_eq_true rfl) (hts _ q1482) (fun _ h => h) rfl dX7_onward_148 ?_
                refine lv_imul hx hb dX7_onward_151 ?_
                refine lv_aload_n hx hb dX7_onward_152 rfl (lv_at hl 0 rfl) ?_
                refine lv_aload_n hx hb dX7_onward_153 rfl (lv_at hl 0 rfl) ?_
                refine va_get (D := G.1) (ci := 7) (v := .int (nI s_11.1)) (C := RX7) (T := TX7) (N := 39) hx hb hts in_X7 hown hK.1 hP 0 rfl rfl 14 (Nat.le_of_ble_eq_true rfl) (hts _ q1481) (fun _ h => h) rfl dX7_onward_154 ?_
                refine zr_obV ⟨hx, hb, hml, hown, hts⟩ (mt_mf_byteAt l G ad m_status m_top m_bottom m_taped zs m_token (nI t_1) (nI s_11.1) s_11.2 m_faultKind m_faultPlace m_faults m_seen m_depth m_counted m_lead m_round m_tried m_triedMany m_drawn m_ranSteps m_isTold m_marks m_at m_names m_sort m_trayMany m_trays m_tape m_text m_opened m_beside m_then m_ways m_further m_canBe m_loops m_ran m_told0 s_11.1 hzs (by omega)) (cwV 1 hts (lw_V q1652 q1654 qs65 q144 q1655) rfl rfl rfl hd_X7_byteAt ⟨(Nat.le_of_ble_eq_true rfl), (Nat.le_of_ble_eq_true rfl)⟩) hP hK (zE_o hE hS) 0 7 rfl rfl rfl hl.1 rfl (Nat.le_of_ble_eq_true rfl) dX7_onward_157 ⟨Nat.le_refl _, Nat.le_refl _⟩ ?_
                refine lv_iadd hx hb dX7_onward_160 ?_
                refine lv_bipush (v := 48) hx hb dX7_onward_161 (by decide) ?_
                refine lv_isub hx hb dX7_onward_163 ?_
                refine va_mmin (x := 100000) (y := ((10 * s_11.2) + (mf_byteAt zs m_text s_11.1)) - 48) hx hb (hml.trans hl.1.symm) hown (hts _ q1663) (hts _ q1664) (hts _ q156) (hts _ q1665) (Nat.le_of_ble_eq_true rfl) (Nat.le_of_ble_eq_true rfl) (Nat.le_refl _) (Nat.le_refl _) dX7_onward_164 ?_
                refine W.eq (g2 := F0 m 167 ls [.int (zmin 100000 (((10 * s_11.2) + (mf_byteAt zs m_text s_11.1)) - 48)), .ref (ad 0)]) rfl ?_
                refine va_put (D := G.1) (ci := 7) (v := .int (zmin 100000 (((10 * s_11.2) + (mf_byteAt zs m_text s_11.1)) - 48))) (ty := .int) (C := RX7) (T := TX7) (N := 39) hx hb hts in_X7 tyX7 tyX7_ok nmX7 hown hK.1 hP hD hS 0 rfl rfl 15 (Nat.le_of_ble_eq_true rfl) (hts _ q1482) (fun _ h => h) rfl (tyX7_ok 15 (Nat.le_of_ble_eq_true rfl)) rfl rfl (Nat.le_of_ble_eq_true rfl) dX7_onward_167 (fun H locs hP hD hS => ?_)
                have hP : va_P G.1 zcl (mW G ad m_status m_top m_bottom m_taped (nI zs) m_token (nI t_1) (nI s_11.1) (zmin 100000 (((10 * s_11.2) + (mf_byteAt zs m_text s_11.1)) - 48)) m_faultKind m_faultPlace m_faults m_seen m_depth m_counted m_lead m_round m_tried m_triedMany m_drawn m_ranSteps m_isTold m_marks m_at m_names m_sort m_trayMany m_trays m_tape m_text m_opened m_beside m_then m_ways m_further m_canBe m_loops m_ran m_told0) H := hP
                have hD : va_D A (mW G ad m_status m_top m_bottom m_taped (nI zs) m_token (nI t_1) (nI s_11.1) (zmin 100000 (((10 * s_11.2) + (mf_byteAt zs m_text s_11.1)) - 48)) m_faultKind m_faultPlace m_faults m_seen m_depth m_counted m_lead m_round m_tried m_triedMany m_drawn m_ranSteps m_isTold m_marks m_at m_names m_sort m_trayMany m_trays m_tape m_text m_opened m_beside m_then m_ways m_further m_canBe m_loops m_ran m_told0) := hD
                refine lv_aload_n hx hb dX7_onward_170 rfl (lv_at hl 0 rfl) ?_
                refine lv_dup hx hb dX7_onward_171 rfl ?_
                refine va_get (D := G.1) (ci := 7) (v := .int (nI s_11.1)) (C := RX7) (T := TX7) (N := 39) hx hb hts in_X7 hown hK.1 hP 0 rfl rfl 14 (Nat.le_of_ble_eq_true rfl) (hts _ q1481) (fun _ h => h) rfl dX7_onward_172 ?_
                refine lv_iconst (v := 1) hx hb dX7_onward_175 (by decide) ?_
                refine zr_iaddN s_11.1 1 hx hb dX7_onward_176 ?_
                refine va_put (D := G.1) (ci := 7) (v := .int (nI (s_11.1 + 1))) (ty := .int) (C := RX7) (T := TX7) (N := 39) hx hb hts in_X7 tyX7 tyX7_ok nmX7 hown hK.1 hP hD hS 0 rfl rfl 14 (Nat.le_of_ble_eq_true rfl) (hts _ q1481) (fun _ h => h) rfl (tyX7_ok 14 (Nat.le_of_ble_eq_true rfl)) rfl rfl (Nat.le_of_ble_eq_true rfl) dX7_onward_177 (fun H locs hP hD hS => ?_)
                have hP : va_P G.1 zcl (mW G ad m_status m_top m_bottom m_taped (nI zs) m_token (nI t_1) (nI (s_11.1 + 1)) (zmin 100000 (((10 * s_11.2) + (mf_byteAt zs m_text s_11.1)) - 48)) m_faultKind m_faultPlace m_faults m_seen m_depth m_counted m_lead m_round m_tried m_triedMany m_drawn m_ranSteps m_isTold m_marks m_at m_names m_sort m_trayMany m_trays m_tape m_text m_opened m_beside m_then m_ways m_further m_canBe m_loops m_ran m_told0) H := hP
                have hD : va_D A (mW G ad m_status m_top m_bottom m_taped (nI zs) m_token (nI t_1) (nI (s_11.1 + 1)) (zmin 100000 (((10 * s_11.2) + (mf_byteAt zs m_text s_11.1)) - 48)) m_faultKind m_faultPlace m_faults m_seen m_depth m_counted m_lead m_round m_tried m_triedMany m_drawn m_ranSteps m_isTold m_marks m_at m_names m_sort m_trayMany m_trays m_tape m_text m_opened m_beside m_then m_ways m_further m_canBe m_loops m_ran m_told0) := hD
                refine lv_goto (tgt := 128) hx hb dX7_onward_180 (by decide) ?_
                exact ih_11 (s_11.1 + 1, zmin 100000 (((10 * s_11.2) + (mf_byteAt zs m_text s_11.1)) - 48)) (by omega) ((zw_l (by rw [mf_onward_B128, if_pos c_12])).symm.trans hR_11) (by omega) (by first | omega | (dsimp only; omega)) H locs hP hD hS ls (lv_sub hl [0] rfl)
          exact hlp_11 _ (t_1, 0) (Nat.lt_succ_self _) (by rw [mf_onward_L128]) (by omega) okx_1_m_end H locs hP hD hS ls (lv_sub hl [1] rfl)
      · have hx_14 : ∀ t_14 : Nat, mf_onward_L81 zs m_text t_1 t_1 = t_14 → t_1 < t_14 → t_14 ≤ zs → ∀ (H : Heap) (locs : List Loc), va_P G.1 zcl (mW G ad m_status m_top m_bottom m_taped (nI zs) m_token (nI t_1) (nI t_14) (mf_byteAt zs m_text t_1) m_faultKind m_faultPlace m_faults m_seen m_depth m_counted m_lead m_round m_tried m_triedMany m_drawn m_ranSteps m_isTold m_marks m_at m_names m_sort m_trayMany m_trays m_tape m_text m_opened m_beside m_then m_ways m_further m_canBe m_loops m_ran m_told0) H → va_D A (mW G ad m_status m_top m_bottom m_taped (nI zs) m_token (nI t_1) (nI t_14) (mf_byteAt zs m_text t_1) m_faultKind m_faultPlace m_faults m_seen m_depth m_counted m_lead m_round m_tried m_triedMany m_drawn m_ranSteps m_isTold m_marks m_at m_names m_sort m_trayMany m_trays m_tape m_text m_opened m_beside m_then m_ways m_further m_canBe m_loops m_ran m_told0) → va_S A s.heap H locs → ∀ ls : Array Slot, lv_has ls 2 [(0, .ref (ad 0))] → W p l e (zR 2 0 0) s m ([.ref (ad 0)] : List Value).toArray below meth c H locs 0 0 (MQ below (zQm G ((mf_onward zs en m_text).2.2.1 ≤ zs ∧ en ≤ ((mf_onward zs en m_text).2.2.1) ∧ ((mf_onward zs en m_text).2.1) ≤ zs ∧ (((mf_onward zs en m_text).1) = 0 ∨ en < ((mf_onward zs en m_text).2.2.1)) ∧ ((mf_onward zs en m_text).2.1) ≤ ((mf_onward zs en m_text).2.2.1)) none (mW G ad m_status m_top m_bottom m_taped (nI zs) ((mf_onward zs en m_text).1) (nI ((mf_onward zs en m_text).2.1)) (nI ((mf_onward zs en m_text).2.2.1)) ((mf_onward zs en m_text).2.2.2) m_faultKind m_faultPlace m_faults m_seen m_depth m_counted m_lead m_round m_tried m_triedMany m_drawn m_ranSteps m_isTold m_marks m_at m_names m_sort m_trayMany m_trays m_tape m_text m_opened m_beside m_then m_ways m_further m_canBe m_loops m_ran m_told0) A) ([.ref (ad 0)] : List Value).toArray s 0 0 A) (F0 m 108 ls []) := by
          intro t_14 ht_14 hx1 okx_14_m_end H locs hP hD hS ls hl
          refine lv_aload_n hx hb dX7_onward_108 rfl (lv_at hl 0 rfl) ?_
          refine lv_iconst (v := 2) hx hb dX7_onward_109 (by decide) ?_
          refine va_put (D := G.1) (ci := 7) (v := .int 2) (ty := .int) (C := RX7) (T := TX7) (N := 39) hx hb hts in_X7 tyX7 tyX7_ok nmX7 hown hK.1 hP hD hS 0 rfl rfl 12 (Nat.le_of_ble_eq_true rfl) (hts _ q1479) (fun _ h => h) rfl (tyX7_ok 12 (Nat.le_of_ble_eq_true rfl)) rfl rfl (Nat.le_of_ble_eq_true rfl) dX7_onward_110 (fun H locs hP hD hS => ?_)
          have hP : va_P G.1 zcl (mW G ad m_status m_top m_bottom m_taped (nI zs) 2 (nI t_1) (nI t_14) (mf_byteAt zs m_text t_1) m_faultKind m_faultPlace m_faults m_seen m_depth m_counted m_lead m_round m_tried m_triedMany m_drawn m_ranSteps m_isTold m_marks m_at m_names m_sort m_trayMany m_trays m_tape m_text m_opened m_beside m_then m_ways m_further m_canBe m_loops m_ran m_told0) H := hP
          have hD : va_D A (mW G ad m_status m_top m_bottom m_taped (nI zs) 2 (nI t_1) (nI t_14) (mf_byteAt zs m_text t_1) m_faultKind m_faultPlace m_faults m_seen m_depth m_counted m_lead m_round m_tried m_triedMany m_drawn m_ranSteps m_isTold m_marks m_at m_names m_sort m_trayMany m_trays m_tape m_text m_opened m_beside m_then m_ways m_further m_canBe m_loops m_ran m_told0) := hD
          refine lv_goto (tgt := 251) hx hb dX7_onward_113 (by decide) ?_
          have e_ : mf_onward zs en m_text = (2, t_1, t_14, mf_byteAt zs m_text t_1) := by rw [mf_onward, zlet_eq ht_1, if_neg c_4, if_pos c_5, zlet_eq ht_14]
          exact zr_mv hx hb hr hlocks hP hD hS dX7_onward_251 rfl (by rw [e_]) (by rw [e_]; exact ⟨okx_14_m_end, (by first | exact Nat.le_refl _ | assumption | omega | (dsimp only; omega)), (by first | rfl | exact Or.inl rfl | exact Or.inl (by assumption) | exact Or.inr (by assumption) | assumption | exact Or.inr (by dsimp only; omega) | omega | (dsimp only; omega) | (dsimp only; assumption)), (by first | rfl | exact Or.inl rfl | exact Or.inl (by assumption) | exact Or.inr (by assumption) | assumption | exact Or.inr (by dsimp only; omega) | omega | (dsimp only; omega) | (dsimp only; assumption)), (by first | rfl | exact Or.inl rfl | exact Or.inl (by assumption) | exact Or.inr (by assumption) | assumption | exact Or.inr (by dsimp only; omega) | omega | (dsimp only; omega) | (dsimp only; assumption))⟩)
        have hlp_14 : ∀ (n : Nat) (s_14 : Nat), zs - s_14 < n → zw (mf_onward_B81 zs m_text t_1) t_1 n s_14 = mf_onward_L81 zs m_text t_1 t_1 → t_1 ≤ s_14 → s_14 ≤ zs → ∀ (H : Heap) (locs : List Loc), va_P G.1 zcl (mW G ad m_status m_top m_bottom m_taped (nI zs) m_token (nI t_1) (nI s_14) (mf_byteAt zs m_text t_1) m_faultKind m_faultPlace m_faults m_seen m_depth m_counted m_lead m_round m_tried m_triedMany m_drawn m_ranSteps m_isTold m_marks m_at m_names m_sort m_trayMany m_trays m_tape m_text m_opened m_beside m_then m_ways m_further m_canBe m_loops m_ran m_told0) H → va_D A (mW G ad m_status m_top m_bottom m_taped (nI zs) m_token (nI t_1) (nI s_14) (mf_byteAt zs m_text t_1) m_faultKind m_faultPlace m_faults m_seen m_depth m_counted m_lead m_round m_tried m_triedMany m_drawn m_ranSteps m_isTold m_marks m_at m_names m_sort m_trayMany m_trays m_tape m_text m_opened m_beside m_then m_ways m_further m_canBe m_loops m_ran m_told0) → va_S A s.heap H locs → ∀ ls : Array Slot, lv_has ls 2 [(0, .ref (ad 0))] → W p l e (zR 2 0 0) s m ([.ref (ad 0)] : List Value).toArray below meth c H locs 0 0 (MQ below (zQm G ((mf_onward zs en m_text).2.2.1 ≤ zs ∧ en ≤ ((mf_onward zs en m_text).2.2.1) ∧ ((mf_onward zs en m_text).2.1) ≤ zs ∧ (((mf_onward zs en m_text).1) = 0 ∨ en < ((mf_onward zs en m_text).2.2.1)) ∧ ((mf_onward zs en m_text).2.1) ≤ ((mf_onward zs en m_text).2.2.1)) none (mW G ad m_status m_top m_bottom m_taped (nI zs) ((mf_onward zs en m_text).1) (nI ((mf_onward zs en m_text).2.1)) (nI ((mf_onward zs en m_text).2.2.1)) ((mf_onward zs en m_text).2.2.2) m_faultKind m_faultPlace m_faults m_seen m_depth m_counted m_lead m_round m_tried m_triedMany m_drawn m_ranSteps m_isTold m_marks m_at m_names m_sort m_trayMany m_trays m_tape m_text m_opened m_beside m_then m_ways m_further m_canBe m_loops m_ran m_told0) A) ([.ref (ad 0)] : List Value).toArray s 0 0 A) (F0 m 81 ls []) := by
          intro n
          induction n with
          | zero => exact fun _ h => absurd h (Nat.not_lt_zero _)
          | succ n ih_14 =>
            intro s_14 hmu_14 hR_14 hi1 ok_14_m_end H locs hP hD hS ls hl
            refine lv_aload_n hx hb dX7_onward_81 rfl (lv_at hl 0 rfl) ?_
            refine lv_aload_n hx hb dX7_onward_82 rfl (lv_at hl 0 rfl) ?_
            refine va_get (D := G.1) (ci := 7) (v := .int (nI s_14)) (C := RX7) (T := TX7) (N := 39) hx hb hts in_X7 hown hK.1 hP 0 rfl rfl 14 (Nat.le_of_ble_eq_true rfl) (hts _ q1481) (fun _ h => h) rfl dX7_onward_83 ?_
            refine zr_obV ⟨hx, hb, hml, hown, hts⟩ (mt_mf_byteAt l G ad m_status m_top m_bottom m_taped zs m_token (nI t_1) (nI s_14) (mf_byteAt zs m_text t_1) m_faultKind m_faultPlace m_faults m_seen m_depth m_counted m_lead m_round m_tried m_triedMany m_drawn m_ranSteps m_isTold m_marks m_at m_names m_sort m_trayMany m_trays m_tape m_text m_opened m_beside m_then m_ways m_further m_canBe m_loops m_ran m_told0 s_14 hzs (by omega)) (cwV 1 hts (lw_V q1652 q1654 qs65 q144 q1655) rfl rfl rfl hd_X7_byteAt ⟨(Nat.le_of_ble_eq_true rfl), (Nat.le_of_ble_eq_true rfl)⟩) hP hK (zE_o hE hS) 0 7 rfl rfl rfl hl.1 rfl (Nat.le_of_ble_eq_true rfl) dX7_onward_86 ⟨Nat.le_refl _, Nat.le_refl _⟩ ?_
            refine zr_puS ⟨hx, hb, hml, hown, hts⟩ (mt_mf_isSmall l (mf_byteAt zs m_text s_14)) (va_cwS 1 hts (lw_S q1656 q1657 q144 q1658) rfl rfl rfl hd_X7_isSmall.2 ⟨(Nat.le_of_ble_eq_true rfl), (Nat.le_of_ble_eq_true rfl)⟩) rfl hl.1 rfl (Nat.le_of_ble_eq_true rfl) dX7_onward_89 ⟨Nat.le_refl _, Nat.le_refl _⟩ ?_
            refine zr_eqB (mf_isSmall (mf_byteAt zs m_text s_14)) (tgt := 108) hx hb dX7_onward_92 (by decide) (fun c_15 => ?_) (fun c_15 => ?_)
            · exact hx_14 s_14 (hR_14.symm.trans (zw_r (by rw [mf_onward_B81, if_neg c_15]))) (Nat.lt_of_le_of_ne hi1 (fun q => (show ¬ mf_isSmall (mf_byteAt zs m_text s_14) = true by assumption) (q ▸ (show mf_isSmall (mf_byteAt zs m_text t_1) = true by assumption)))) ok_14_m_end H locs hP hD hS ls (lv_sub hl [0] rfl)
            · have hlt2 := byteAt_lt (isSmall_ne c_15)
              refine lv_aload_n hx hb dX7_onward_95 rfl (lv_at hl 0 rfl) ?_
              refine lv_dup hx hb dX7_onward_96 rfl ?_
              refine va_get (D := G.1) (ci := 7) (v := .int (nI s_14)) (C := RX7) (T := TX7) (N := 39) hx hb hts in_X7 hown hK.1 hP 0 rfl rfl 14 (Nat.le_of_ble_eq_true rfl) (hts _ q1481) (fun _ h => h) rfl dX7_onward_97 ?_
              refine lv_iconst (v := 1) hx hb dX7_onward_100 (by decide) ?_
              refine zr_iaddN s_14 1 hx hb dX7_onward_101 ?_
              refine va_put (D := G.1) (ci := 7) (v := .int (nI (s_14 + 1))) (ty := .int) (C := RX7) (T := TX7) (N := 39) hx hb hts in_X7 tyX7 tyX7_ok nmX7 hown hK.1 hP hD hS 0 rfl rfl 14 (Nat.le_of_ble_eq_true rfl) (hts _ q1481) (fun _ h => h) rfl (tyX7_ok 14 (Nat.le_of_ble_eq_true rfl)) rfl rfl (Nat.le_of_ble_eq_true rfl) dX7_onward_102 (fun H locs hP hD hS => ?_)
              have hP : va_P G.1 zcl (mW G ad m_status m_top m_bottom m_taped (nI zs) m_token (nI t_1) (nI (s_14 + 1)) (mf_byteAt zs m_text t_1) m_faultKind m_faultPlace m_faults m_seen m_depth m_counted m_lead m_round m_tried m_triedMany m_drawn m_ranSteps m_isTold m_marks m_at m_names m_sort m_trayMany m_trays m_tape m_text m_opened m_beside m_then m_ways m_further m_canBe m_loops m_ran m_told0) H := hP
              have hD : va_D A (mW G ad m_status m_top m_bottom m_taped (nI zs) m_token (nI t_1) (nI (s_14 + 1)) (mf_byteAt zs m_text t_1) m_faultKind m_faultPlace m_faults m_seen m_depth m_counted m_lead m_round m_tried m_triedMany m_drawn m_ranSteps m_isTold m_marks m_at m_names m_sort m_trayMany m_trays m_tape m_text m_opened m_beside m_then m_ways m_further m_canBe m_loops m_ran m_told0) := hD
              refine lv_goto (tgt := 81) hx hb dX7_onward_105 (by decide) ?_
              exact ih_14 (s_14 + 1) (by omega) ((zw_l (by rw [mf_onward_B81, if_pos c_15])).symm.trans hR_14) (by omega) (by first | omega | (dsimp only; omega)) H locs hP hD hS ls (lv_sub hl [0] rfl)
        exact hlp_14 _ t_1 (Nat.lt_succ_self _) (by rw [mf_onward_L81]) (by omega) okx_1_m_end H locs hP hD hS ls (lv_sub hl [1] rfl)
    · refine lv_aload_n hx hb dX7_onward_66 rfl (lv_at hl 1 rfl) ?_
      refine lv_iconst (v := 0) hx hb dX7_onward_67 (by decide) ?_
      refine va_put (D := G.1) (ci := 7) (v := .int 0) (ty := .int) (C := RX7) (T := TX7) (N := 39) hx hb hts in_X7 tyX7 tyX7_ok nmX7 hown hK.1 hP hD hS 0 rfl rfl 12 (Nat.le_of_ble_eq_true rfl) (hts _ q1479) (fun _ h => h) rfl (tyX7_ok 12 (Nat.le_of_ble_eq_true rfl)) rfl rfl (Nat.le_of_ble_eq_true rfl) dX7_onward_68 (fun H locs hP hD hS => ?_)
      have hP : va_P G.1 zcl (mW G ad m_status m_top m_bottom m_taped (nI zs) 0 (nI t_1) (nI t_1) (mf_byteAt zs m_text t_1) m_faultKind m_faultPlace m_faults m_seen m_depth m_counted m_lead m_round m_tried m_triedMany m_drawn m_ranSteps m_isTold m_marks m_at m_names m_sort m_trayMany m_trays m_tape m_text m_opened m_beside m_then m_ways m_further m_canBe m_loops m_ran m_told0) H := hP
      have hD : va_D A (mW G ad m_status m_top m_bottom m_taped (nI zs) 0 (nI t_1) (nI t_1) (mf_byteAt zs m_text t_1) m_faultKind m_faultPlace m_faults m_seen m_depth m_counted m_lead m_round m_tried m_triedMany m_drawn m_ranSteps m_isTold m_marks m_at m_names m_sort m_trayMany m_trays m_tape m_text m_opened m_beside m_then m_ways m_further m_canBe m_loops m_ran m_told0) := hD
      refine lv_goto (tgt := 251) hx hb dX7_onward_71 (by decide) ?_
      have e_ : mf_onward zs en m_text = (0, t_1, t_1, mf_byteAt zs m_text t_1) := by rw [mf_onward, zlet_eq ht_1, if_pos c_4]
      exact zr_mv hx hb hr hlocks hP hD hS dX7_onward_251 rfl (by rw [e_]) (by rw [e_]; exact ⟨okx_1_m_end, (by first | exact Nat.le_refl _ | assumption | omega | (dsimp only; omega)), (by first | rfl | exact Or.inl rfl | exact Or.inl (by assumption) | exact Or.inr (by assumption) | assumption | exact Or.inr (by dsimp only; omega) | omega | (dsimp only; omega) | (dsimp only; assumption)), (by first | rfl | exact Or.inl rfl | exact Or.inl (by assumption) | exact Or.inr (by assumption) | assumption | exact Or.inr (by dsimp only; omega) | omega | (dsimp only; omega) | (dsimp only; assumption)), (by first | rfl | exact Or.inl rfl | exact Or.inl (by assumption) | exact Or.inr (by assumption) | assumption | exact Or.inr (by dsimp only; omega) | omega | (dsimp only; omega) | (dsimp only; assumption))⟩)
  have hlp_1 : ∀ (n : Nat) (s_1 : Nat), zs - s_1 < n → zw (mf_onward_B0 zs en m_text) en n s_1 = mf_onward_L0 zs en m_text en → en ≤ s_1 → s_1 ≤ zs → ∀ (H : Heap) (locs : List Loc), va_P G.1 zcl (mW G ad m_status m_top m_bottom m_taped (nI zs) m_token (nI fr) (nI s_1) m_value m_faultKind m_faultPlace m_faults m_seen m_depth m_counted m_lead m_round m_tried m_triedMany m_drawn m_ranSteps m_isTold m_marks m_at m_names m_sort m_trayMany m_trays m_tape m_text m_opened m_beside m_then m_ways m_further m_canBe m_loops m_ran m_told0) H → va_D A (mW G ad m_status m_top m_bottom m_taped (nI zs) m_token (nI fr) (nI s_1) m_value m_faultKind m_faultPlace m_faults m_seen m_depth m_counted m_lead m_round m_tried m_triedMany m_drawn m_ranSteps m_isTold m_marks m_at m_names m_sort m_trayMany m_trays m_tape m_text m_opened m_beside m_then m_ways m_further m_canBe m_loops m_ran m_told0) → va_S A s.heap H locs → ∀ ls : Array Slot, lv_has ls 2 [(0, .ref (ad 0))] → W p l e (zR 2 0 0) s m ([.ref (ad 0)] : List Value).toArray below meth c H locs 0 0 (MQ below (zQm G ((mf_onward zs en m_text).2.2.1 ≤ zs ∧ en ≤ ((mf_onward zs en m_text).2.2.1) ∧ ((mf_onward zs en m_text).2.1) ≤ zs ∧ (((mf_onward zs en m_text).1) = 0 ∨ en < ((mf_onward zs en m_text).2.2.1)) ∧ ((mf_onward zs en m_text).2.1) ≤ ((mf_onward zs en m_text).2.2.1)) none (mW G ad m_status m_top m_bottom m_taped (nI zs) ((mf_onward zs en m_text).1) (nI ((mf_onward zs en m_text).2.1)) (nI ((mf_onward zs en m_text).2.2.1)) ((mf_onward zs en m_text).2.2.2) m_faultKind m_faultPlace m_faults m_seen m_depth m_counted m_lead m_round m_tried m_triedMany m_drawn m_ranSteps m_isTold m_marks m_at m_names m_sort m_trayMany m_trays m_tape m_text m_opened m_beside m_then m_ways m_further m_canBe m_loops m_ran m_told0) A) ([.ref (ad 0)] : List Value).toArray s 0 0 A) (F0 m 0 ls []) := by
    intro n
    induction n with
    | zero => exact fun _ h => absurd h (Nat.not_lt_zero _)
    | succ n ih_1 =>
      intro s_1 hmu_1 hR_1 hi0 ok_1_m_end H locs hP hD hS ls hl
      refine lv_aload_n hx hb dX7_onward_0 rfl (lv_at hl 0 rfl) ?_
      refine lv_aload_n hx hb dX7_onward_1 rfl (lv_at hl 0 rfl) ?_
      refine va_get (D := G.1) (ci := 7) (v := .int (nI s_1)) (C := RX7) (T := TX7) (N := 39) hx hb hts in_X7 hown hK.1 hP 0 rfl rfl 14 (Nat.le_of_ble_eq_true rfl) (hts _ q1481) (fun _ h => h) rfl dX7_onward_2 ?_
      refine zr_obV ⟨hx, hb, hml, hown, hts⟩ (mt_mf_byteAt l G ad m_status m_top m_bottom m_taped zs m_token (nI fr) (nI s_1) m_value m_faultKind m_faultPlace m_faults m_seen m_depth m_counted m_lead m_round m_tried m_triedMany m_drawn m_ranSteps m_isTold m_marks m_at m_names m_sort m_trayMany m_trays m_tape m_text m_opened m_beside m_then m_ways m_further m_canBe m_loops m_ran m_told0 s_1 hzs (by omega)) (cwV 1 hts (lw_V q1652 q1654 qs65 q144 q1655) rfl rfl rfl hd_X7_byteAt ⟨(Nat.le_of_ble_eq_true rfl), (Nat.le_of_ble_eq_true rfl)⟩) hP hK (zE_o hE hS) 0 7 rfl rfl rfl hl.1 rfl (Nat.le_of_ble_eq_true rfl) dX7_onward_5 ⟨Nat.le_refl _, Nat.le_refl _⟩ ?_
      refine lv_bipush (v := 32) hx hb dX7_onward_8 (by decide) ?_
      refine lv_icmp_eq (tgt := 26) hx hb dX7_onward_10 (by decide) (fun c_2 => ?_) (fun c_2 => ?_)
      · have hlt := byteAt_lt (fun q => absurd (c_2.symm.trans q) (by decide))
        refine lv_aload_n hx hb dX7_onward_26 rfl (lv_at hl 0 rfl) ?_
        refine lv_dup hx hb dX7_onward_27 rfl ?_
        refine va_get (D := G.1) (ci := 7) (v := .int (nI s_1)) (C := RX7) (T := TX7) (N := 39) hx hb hts in_X7 hown hK.1 hP 0 rfl rfl 14 (Nat.le_of_ble_eq_true rfl) (hts _ q1481) (fun _ h => h) rfl dX7_onward_28 ?_
        refine lv_iconst (v := 1) hx hb dX7_onward_31 (by decide) ?_
        refine zr_iaddN s_1 1 hx hb dX7_onward_32 ?_
        refine va_put (D := G.1) (ci := 7) (v := .int (nI (s_1 + 1))) (ty := .int) (C := RX7) (T := TX7) (N := 39) hx hb hts in_X7 tyX7 tyX7_ok nmX7 hown hK.1 hP hD hS 0 rfl rfl 14 (Nat.le_of_ble_eq_true rfl) (hts _ q1481) (fun _ h => h) rfl (tyX7_ok 14 (Nat.le_of_ble_eq_true rfl)) rfl rfl (Nat.le_of_ble_eq_true rfl) dX7_onward_33 (fun H locs hP hD hS => ?_)
        have hP : va_P G.1 zcl (mW G ad m_status m_top m_bottom m_taped (nI zs) m_token (nI fr) (nI (s_1 + 1)) m_value m_faultKind m_faultPlace m_faults m_seen m_depth m_counted m_lead m_round m_tried m_triedMany m_drawn m_ranSteps m_isTold m_marks m_at m_names m_sort m_trayMany m_trays m_tape m_text m_opened m_beside m_then m_ways m_further m_canBe m_loops m_ran m_told0) H := hP
        have hD : va_D A (mW G ad m_status m_top m_bottom m_taped (nI zs) m_token (nI fr) (nI (s_1 + 1)) m_value m_faultKind m_faultPlace m_faults m_seen m_depth m_counted m_lead m_round m_tried m_triedMany m_drawn m_ranSteps m_isTold m_marks m_at m_names m_sort m_trayMany m_trays m_tape m_text m_opened m_beside m_then m_ways m_further m_canBe m_loops m_ran m_told0) := hD
        refine lv_goto (tgt := 0) hx hb dX7_onward_36 (by decide) ?_
        exact ih_1 (s_1 + 1) (by omega) ((zw_l (by rw [mf_onward_B0, if_pos c_2])).symm.trans hR_1) (by omega) (by first | omega | (dsimp only; omega)) H locs hP hD hS ls (lv_sub hl [0] rfl)
      · refine lv_aload_n hx hb dX7_onward_13 rfl (lv_at hl 0 rfl) ?_
        refine lv_aload_n hx hb dX7_onward_14 rfl (lv_at hl 0 rfl) ?_
        refine va_get (D := G.1) (ci := 7) (v := .int (nI s_1)) (C := RX7) (T := TX7) (N := 39) hx hb hts in_X7 hown hK.1 hP 0 rfl rfl 14 (Nat.le_of_ble_eq_true rfl) (hts _ q1481) (fun _ h => h) rfl dX7_onward_15 ?_
        refine zr_obV ⟨hx, hb, hml, hown, hts⟩ (mt_mf_byteAt l G ad m_status m_top m_bottom m_taped zs m_token (nI fr) (nI s_1) m_value m_faultKind m_faultPlace m_faults m_seen m_depth m_counted m_lead m_round m_tried m_triedMany m_drawn m_ranSteps m_isTold m_marks m_at m_names m_sort m_trayMany m_trays m_tape m_text m_opened m_beside m_then m_ways m_further m_canBe m_loops m_ran m_told0 s_1 hzs (by omega)) (cwV 1 hts (lw_V q1652 q1654 qs65 q144 q1655) rfl rfl rfl hd_X7_byteAt ⟨(Nat.le_of_ble_eq_true rfl), (Nat.le_of_ble_eq_true rfl)⟩) hP hK (zE_o hE hS) 0 7 rfl rfl rfl hl.1 rfl (Nat.le_of_ble_eq_true rfl) dX7_onward_18 ⟨Nat.le_refl _, Nat.le_refl _⟩ ?_
        refine lv_bipush (v := 10) hx hb dX7_onward_21 (by decide) ?_
        refine lv_icmp_ne (tgt := 39) hx hb dX7_onward_23 (by decide) (fun c_3 => ?_) (fun c_3 => ?_)
        · exact hx_1 s_1 (hR_1.symm.trans (zw_r (by rw [mf_onward_B0, if_neg c_2, if_neg c_3]))) hi0 ok_1_m_end H locs hP hD hS ls (lv_sub hl [0] rfl)
        · have hlt := byteAt_lt (fun q => absurd (c_3.symm.trans q) (by decide))
          refine lv_aload_n hx hb dX7_onward_26 rfl (lv_at hl 0 rfl) ?_
          refine lv_dup hx hb dX7_onward_27 rfl ?_
          refine va_get (D := G.1) (ci := 7) (v := .int (nI s_1)) (C := RX7) (T := TX7) (N := 39) hx hb hts in_X7 hown hK.1 hP 0 rfl rfl 14 (Nat.le_of_ble_eq_true rfl) (hts _ q1481) (fun _ h => h) rfl dX7_onward_28 ?_
          refine lv_iconst (v := 1) hx hb dX7_onward_31 (by decide) ?_
          refine zr_iaddN s_1 1 hx hb dX7_onward_32 ?_
          refine va_put (D := G.1) (ci := 7) (v := .int (nI (s_1 + 1))) (ty := .int) (C := RX7) (T := TX7) (N := 39) hx hb hts in_X7 tyX7 tyX7_ok nmX7 hown hK.1 hP hD hS 0 rfl rfl 14 (Nat.le_of_ble_eq_true rfl) (hts _ q1481) (fun _ h => h) rfl (tyX7_ok 14 (Nat.le_of_ble_eq_true rfl)) rfl rfl (Nat.le_of_ble_eq_true rfl) dX7_onward_33 (fun H locs hP hD hS => ?_)
          have hP : va_P G.1 zcl (mW G ad m_status m_top m_bottom m_taped (nI zs) m_token (nI fr) (nI (s_1 + 1)) m_value m_faultKind m_faultPlace m_faults m_seen m_depth m_counted m_lead m_round m_tried m_triedMany m_drawn m_ranSteps m_isTold m_marks m_at m_names m_sort m_trayMany m_trays m_tape m_text m_opened m_beside m_then m_ways m_further m_canBe m_loops m_ran m_told0) H := hP
          have hD : va_D A (mW G ad m_status m_top m_bottom m_taped (nI zs) m_token (nI fr) (nI (s_1 + 1)) m_value m_faultKind m_faultPlace m_faults m_seen m_depth m_counted m_lead m_round m_tried m_triedMany m_drawn m_ranSteps m_isTold m_marks m_at m_names m_sort m_trayMany m_trays m_tape m_text m_opened m_beside m_then m_ways m_further m_canBe m_loops m_ran m_told0) := hD
          refine lv_goto (tgt := 0) hx hb dX7_onward_36 (by decide) ?_
          exact ih_1 (s_1 + 1) (by omega) ((zw_l (by rw [mf_onward_B0, if_neg c_2, if_pos c_3])).symm.trans hR_1) (by omega) (by first | omega | (dsimp only; omega)) H locs hP hD hS ls (lv_sub hl [0] rfl)
  exact hlp_1 _ en (Nat.lt_succ_self _) (by rw [mf_onward_L0]) (by omega) hen H locs hP hD hS ls (lv_sub hl [0] rfl)
def mf_fails (m_token : Int32) (fr : Nat) (m_faultPlace : Int32) (m_faults : Int32) (kind : Int32) : Bool × Int32 × Int32 :=
  (if m_faults = 0 then
    (if m_token = 1 then
      (false, nI fr, 1)
    else
      (false, nI fr, kind))
  else
    (false, m_faultPlace, m_faults))
theorem hd_X7_fails : yX7_fails.cls = RX7 ∧ yX7_fails.cls ≠ "java/lang/invoke/MethodHandle" ∧ yX7_fails.cls ≠ "java/lang/invoke/VarHandle" ∧ (parseMethodDescriptor yX7_fails.desc).map (fun d => d.parameters.length) = some 1 := by decide +kernel
set_option maxHeartbeats 4000000 in
set_option maxRecDepth 100000 in
theorem mt_mf_fails (l : Launch) (G : zG) (ad : Nat → Nat) (m_status : Int32) (m_top : Int64) (m_bottom : Int64) (m_taped : Int32) (zs : Nat) (m_token : Int32) (fr : Nat) (en : Nat) (m_value : Int32) (m_faultKind : Int32) (m_faultPlace : Int32) (m_faults : Int32) (m_seen : Int32) (m_depth : Int32) (m_counted : Int32) (m_lead : Int32) (m_round : Int32) (m_tried : Int32) (m_triedMany : Int32) (m_drawn : Int32) (m_ranSteps : Int32) (m_isTold : Bool) (m_marks : Int32) (m_at : Nat → Int32) (m_names : Nat → Int64) (m_sort : Nat → Int32) (m_trayMany : Nat → Int32) (m_trays : Nat → Int64) (m_tape : Nat → Int32) (m_text : Nat → Int32) (m_opened : Nat → Int32) (m_beside : Nat → Int32) (m_then : Nat → Int32) (m_ways : Nat → Int64) (m_further : Nat → Int64) (m_canBe : Nat → Int32) (m_loops : Nat → Int32) (m_ran : Nat → Int32) (m_told0 : Nat → Int32) (kind : Int32) (hzs : zs ≤ 900) (hen : en ≤ zs) (hfr : fr ≤ zs) (sz : Nat) : Met l yX7_fails (ws_ yX7_fails cX7_fails 2 (some .boolean)) (zR 1 0 0) (zPm G sz [.ref (ad 0), .int kind] (mW G ad m_status m_top m_bottom m_taped (nI zs) m_token (nI fr) (nI en) m_value m_faultKind m_faultPlace m_faults m_seen m_depth m_counted m_lead m_round m_tried m_triedMany m_drawn m_ranSteps m_isTold m_marks m_at m_names m_sort m_trayMany m_trays m_tape m_text m_opened m_beside m_then m_ways m_further m_canBe m_loops m_ran m_told0)) (zQm G (((mf_fails m_token fr m_faultPlace m_faults kind).1) = false ∧ (¬ kind = 0 → ¬ ((mf_fails m_token fr m_faultPlace m_faults kind).2.2) = 0)) (some (.int (zb ((mf_fails m_token fr m_faultPlace m_faults kind).1)))) (mW G ad m_status m_top m_bottom m_taped (nI zs) m_token (nI fr) (nI en) m_value m_faultKind ((mf_fails m_token fr m_faultPlace m_faults kind).2.1) ((mf_fails m_token fr m_faultPlace m_faults kind).2.2) m_seen m_depth m_counted m_lead m_round m_tried m_triedMany m_drawn m_ranSteps m_isTold m_marks m_at m_names m_sort m_trayMany m_trays m_tape m_text m_opened m_beside m_then m_ways m_further m_canBe m_loops m_ran m_told0) (va_A (mW G ad m_status m_top m_bottom m_taped (nI zs) m_token (nI fr) (nI en) m_value m_faultKind m_faultPlace m_faults m_seen m_depth m_counted m_lead m_round m_tried m_triedMany m_drawn m_ranSteps m_isTold m_marks m_at m_names m_sort m_trayMany m_trays m_tape m_text m_opened m_beside m_then m_ways m_further m_canBe m_loops m_ran m_told0) sz)) 0 0 (va_A (mW G ad m_status m_top m_bottom m_taped (nI zs) m_token (nI fr) (nI en) m_value m_faultKind m_faultPlace m_faults m_seen m_depth m_counted m_lead m_round m_tried m_triedMany m_drawn m_ranSteps m_isTold m_marks m_at m_names m_sort m_trayMany m_trays m_tape m_text m_opened m_beside m_then m_ways m_further m_canBe m_loops m_ran m_told0) sz) := by
  refine zr_entM (by decide) (Nat.le_of_ble_eq_true rfl) ?_
  intro p e s m below meth c ⟨hx, hb, hr, hml, hown, hts, hlocks, hnm⟩ ls hl hP hK A hE hA hD hS
  have hown : s.vm.findClass RX7 = some m.cls := hown
  have hl : lv_has ls 2 [(0, .ref (ad 0)), (1, .int kind)] := hl
  obtain ⟨H, hH⟩ : ∃ H, H = s.heap := ⟨_, rfl⟩
  obtain ⟨locs, hlo⟩ : ∃ L : List Loc, L = [] := ⟨_, rfl⟩
  rw [← hH] at hP
  have hS : va_S A s.heap H locs := by rw [hH, hlo]; exact va_S.rf
  have hgo : W p l e (zR 1 0 0) s m ([.ref (ad 0), .int kind] : List Value).toArray below meth c H locs 0 0 (MQ below (zQm G (((mf_fails m_token fr m_faultPlace m_faults kind).1) = false ∧ (¬ kind = 0 → ¬ ((mf_fails m_token fr m_faultPlace m_faults kind).2.2) = 0)) (some (.int (zb ((mf_fails m_token fr m_faultPlace m_faults kind).1)))) (mW G ad m_status m_top m_bottom m_taped (nI zs) m_token (nI fr) (nI en) m_value m_faultKind ((mf_fails m_token fr m_faultPlace m_faults kind).2.1) ((mf_fails m_token fr m_faultPlace m_faults kind).2.2) m_seen m_depth m_counted m_lead m_round m_tried m_triedMany m_drawn m_ranSteps m_isTold m_marks m_at m_names m_sort m_trayMany m_trays m_tape m_text m_opened m_beside m_then m_ways m_further m_canBe m_loops m_ran m_told0) A) ([.ref (ad 0), .int kind] : List Value).toArray s 0 0 A) (F0 m 0 ls []) := ?_
  · rw [hH, hlo] at hgo; exact hgo
  clear hH hlo
  refine lv_aload_n hx hb dX7_fails_0 rfl (lv_at hl 0 rfl) ?_
  refine va_get (D := G.1) (ci := 7) (v := .int m_faults) (C := RX7) (T := TX7) (N := 39) hx hb hts in_X7 hown hK.1 hP 0 rfl rfl 18 (Nat.le_of_ble_eq_true rfl) (hts _ q1485) (fun _ h => h) rfl dX7_fails_1 ?_
  refine lv_if_ne (tgt := 32) hx hb dX7_fails_4 (by decide) (fun c_1 => ?_) (fun c_1 => ?_)
  · refine lv_iconst (v := 0) hx hb dX7_fails_32 (by decide) ?_
    have e_ : mf_fails m_token fr m_faultPlace m_faults kind = (false, m_faultPlace, m_faults) := by rw [mf_fails, if_neg c_1]
    exact zr_mz hx hb hr hlocks hP hD hS dX7_fails_33 rfl (by rw [e_]; rfl) (by rw [e_]) (by rw [e_]; exact ⟨rfl, (by first | exact fun _ => (show ¬ (1 : Int32) = 0 by decide) | exact fun h => h | exact fun _ => (by assumption))⟩)
  · refine lv_aload_n hx hb dX7_fails_7 rfl (lv_at hl 0 rfl) ?_
    refine lv_aload_n hx hb dX7_fails_8 rfl (lv_at hl 0 rfl) ?_
    refine va_get (D := G.1) (ci := 7) (v := .int m_token) (C := RX7) (T := TX7) (N := 39) hx hb hts in_X7 hown hK.1 hP 0 rfl rfl 12 (Nat.le_of_ble_eq_true rfl) (hts _ q1479) (fun _ h => h) rfl dX7_fails_9 ?_
    refine lv_iconst (v := 1) hx hb dX7_fails_12 (by decide) ?_
    refine lv_icmp_ne (tgt := 20) hx hb dX7_fails_13 (by decide) (fun c_2 => ?_) (fun c_2 => ?_)
    · refine lv_iload_n hx hb dX7_fails_20 rfl (lv_at hl 1 rfl) ?_
      refine va_put (D := G.1) (ci := 7) (v := .int kind) (ty := .int) (C := RX7) (T := TX7) (N := 39) hx hb hts in_X7 tyX7 tyX7_ok nmX7 hown hK.1 hP hD hS 0 rfl rfl 18 (Nat.le_of_ble_eq_true rfl) (hts _ q1485) (fun _ h => h) rfl (tyX7_ok 18 (Nat.le_of_ble_eq_true rfl)) rfl rfl (Nat.le_of_ble_eq_true rfl) dX7_fails_21 (fun H locs hP hD hS => ?_)
      have hP : va_P G.1 zcl (mW G ad m_status m_top m_bottom m_taped (nI zs) m_token (nI fr) (nI en) m_value m_faultKind m_faultPlace kind m_seen m_depth m_counted m_lead m_round m_tried m_triedMany m_drawn m_ranSteps m_isTold m_marks m_at m_names m_sort m_trayMany m_trays m_tape m_text m_opened m_beside m_then m_ways m_further m_canBe m_loops m_ran m_told0) H := hP
      have hD : va_D A (mW G ad m_status m_top m_bottom m_taped (nI zs) m_token (nI fr) (nI en) m_value m_faultKind m_faultPlace kind m_seen m_depth m_counted m_lead m_round m_tried m_triedMany m_drawn m_ranSteps m_isTold m_marks m_at m_names m_sort m_trayMany m_trays m_tape m_text m_opened m_beside m_then m_ways m_further m_canBe m_loops m_ran m_told0) := hD
      refine lv_aload_n hx hb dX7_fails_24 rfl (lv_at hl 0 rfl) ?_
      refine lv_aload_n hx hb dX7_fails_25 rfl (lv_at hl 0 rfl) ?_
      refine va_get (D := G.1) (ci := 7) (v := .int (nI fr)) (C := RX7) (T := TX7) (N := 39) hx hb hts in_X7 hown hK.1 hP 0 rfl rfl 13 (Nat.le_of_ble_eq_true rfl) (hts _ q1480) (fun _ h => h) rfl dX7_fails_26 ?_
      refine va_put (D := G.1) (ci := 7) (v := .int (nI fr)) (ty := .int) (C := RX7) (T := TX7) (N := 39) hx hb hts in_X7 tyX7 tyX7_ok nmX7 hown hK.1 hP hD hS 0 rfl rfl 17 (Nat.le_of_ble_eq_true rfl) (hts _ q1484) (fun _ h => h) rfl (tyX7_ok 17 (Nat.le_of_ble_eq_true rfl)) rfl rfl (Nat.le_of_ble_eq_true rfl) dX7_fails_29 (fun H locs hP hD hS => ?_)
      have hP : va_P G.1 zcl (mW G ad m_status m_top m_bottom m_taped (nI zs) m_token (nI fr) (nI en) m_value m_faultKind (nI fr) kind m_seen m_depth m_counted m_lead m_round m_tried m_triedMany m_drawn m_ranSteps m_isTold m_marks m_at m_names m_sort m_trayMany m_trays m_tape m_text m_opened m_beside m_then m_ways m_further m_canBe m_loops m_ran m_told0) H := hP
      have hD : va_D A (mW G ad m_status m_top m_bottom m_taped (nI zs) m_token (nI fr) (nI en) m_value m_faultKind (nI fr) kind m_seen m_depth m_counted m_lead m_round m_tried m_triedMany m_drawn m_ranSteps m_isTold m_marks m_at m_names m_sort m_trayMany m_trays m_tape m_text m_opened m_beside m_then m_ways m_further m_canBe m_loops m_ran m_told0) := hD
      refine lv_iconst (v := 0) hx hb dX7_fails_32 (by decide) ?_
      have e_ : mf_fails m_token fr m_faultPlace m_faults kind = (false, nI fr, kind) := by rw [mf_fails, if_pos c_1, if_neg c_2]
      exact zr_mz hx hb hr hlocks hP hD hS dX7_fails_33 rfl (by rw [e_]; rfl) (by rw [e_]) (by rw [e_]; exact ⟨rfl, (by first | exact fun _ => (show ¬ (1 : Int32) = 0 by decide) | exact fun h => h | exact fun _ => (by assumption))⟩)
    · refine lv_iconst (v := 1) hx hb dX7_fails_16 (by decide) ?_
      refine lv_goto (tgt := 21) hx hb dX7_fails_17 (by decide) ?_
      refine va_put (D := G.1) (ci := 7) (v := .int 1) (ty := .int) (C := RX7) (T := TX7) (N := 39) hx hb hts in_X7 tyX7 tyX7_ok nmX7 hown hK.1 hP hD hS 0 rfl rfl 18 (Nat.le_of_ble_eq_true rfl) (hts _ q1485) (fun _ h => h) rfl (tyX7_ok 18 (Nat.le_of_ble_eq_true rfl)) rfl rfl (Nat.le_of_ble_eq_true rfl) dX7_fails_21 (fun H locs hP hD hS => ?_)
      have hP : va_P G.1 zcl (mW G ad m_status m_top m_bottom m_taped (nI zs) m_token (nI fr) (nI en) m_value m_faultKind m_faultPlace 1 m_seen m_depth m_counted m_lead m_round m_tried m_triedMany m_drawn m_ranSteps m_isTold m_marks m_at m_names m_sort m_trayMany m_trays m_tape m_text m_opened m_beside m_then m_ways m_further m_canBe m_loops m_ran m_told0) H := hP
      have hD : va_D A (mW G ad m_status m_top m_bottom m_taped (nI zs) m_token (nI fr) (nI en) m_value m_faultKind m_faultPlace 1 m_seen m_depth m_counted m_lead m_round m_tried m_triedMany m_drawn m_ranSteps m_isTold m_marks m_at m_names m_sort m_trayMany m_trays m_tape m_text m_opened m_beside m_then m_ways m_further m_canBe m_loops m_ran m_told0) := hD
      refine lv_aload_n hx hb dX7_fails_24 rfl (lv_at hl 0 rfl) ?_
      refine lv_aload_n hx hb dX7_fails_25 rfl (lv_at hl 0 rfl) ?_
      refine va_get (D := G.1) (ci := 7) (v := .int (nI fr)) (C := RX7) (T := TX7) (N := 39) hx hb hts in_X7 hown hK.1 hP 0 rfl rfl 13 (Nat.le_of_ble_eq_true rfl) (hts _ q1480) (fun _ h => h) rfl dX7_fails_26 ?_
      refine va_put (D := G.1) (ci := 7) (v := .int (nI fr)) (ty := .int) (C := RX7) (T := TX7) (N := 39) hx hb hts in_X7 tyX7 tyX7_ok nmX7 hown hK.1 hP hD hS 0 rfl rfl 17 (Nat.le_of_ble_eq_true rfl) (hts _ q1484) (fun _ h => h) rfl (tyX7_ok 17 (Nat.le_of_ble_eq_true rfl)) rfl rfl (Nat.le_of_ble_eq_true rfl) dX7_fails_29 (fun H locs hP hD hS => ?_)
      have hP : va_P G.1 zcl (mW G ad m_status m_top m_bottom m_taped (nI zs) m_token (nI fr) (nI en) m_value m_faultKind (nI fr) 1 m_seen m_depth m_counted m_lead m_round m_tried m_triedMany m_drawn m_ranSteps m_isTold m_marks m_at m_names m_sort m_trayMany m_trays m_tape m_text m_opened m_beside m_then m_ways m_further m_canBe m_loops m_ran m_told0) H := hP
      have hD : va_D A (mW G ad m_status m_top m_bottom m_taped (nI zs) m_token (nI fr) (nI en) m_value m_faultKind (nI fr) 1 m_seen m_depth m_counted m_lead m_round m_tried m_triedMany m_drawn m_ranSteps m_isTold m_marks m_at m_names m_sort m_trayMany m_trays m_tape m_text m_opened m_beside m_then m_ways m_further m_canBe m_loops m_ran m_told0) := hD
      refine lv_iconst (v := 0) hx hb dX7_fails_32 (by decide) ?_
      have e_ : mf_fails m_token fr m_faultPlace m_faults kind = (false, nI fr, 1) := by rw [mf_fails, if_pos c_1, if_pos c_2]
      exact zr_mz hx hb hr hlocks hP hD hS dX7_fails_33 rfl (by rw [e_]; rfl) (by rw [e_]) (by rw [e_]; exact ⟨rfl, (by first | exact fun _ => (show ¬ (1 : Int32) = 0 by decide) | exact fun h => h | exact fun _ => (by assumption))⟩)
def mf_inWords_B25 (s_2 : Nat × Nat) (s_4 : Nat) : (Nat) ⊕ (Nat) :=
  (if (zch 22 s_4) = 32 then
    .inr s_4
  else
    .inl (s_4 + 1))
def mf_inWords_L25 (s_2 : Nat × Nat) (s_4 : Nat) : Nat := zw (mf_inWords_B25 s_2) (s_4) ((116 - s_4) + 1) s_4
def mf_inWords_B68 (zs : Nat) (fr : Nat) (m_text : Nat → Int32) (s_2 : Nat × Nat) (t_4 : Nat) (s_9 : Nat × Bool) : (Nat × Bool) ⊕ (Nat × Bool) :=
  (if t_4 ≤ s_9.1 then
    .inr (s_9.1, s_9.2)
  else
    (if s_9.2 = true then
      (if (zch 22 s_9.1) = (mf_byteAt zs m_text ((fr + s_9.1) - s_2.1)) then
        .inl (s_9.1 + 1, true)
      else
        .inl (s_9.1 + 1, false))
    else
      .inr (s_9.1, s_9.2)))
def mf_inWords_L68 (zs : Nat) (fr : Nat) (m_text : Nat → Int32) (s_2 : Nat × Nat) (t_4 : Nat) (s_9 : Nat × Bool) : Nat × Bool := zw (mf_inWords_B68 zs fr m_text s_2 t_4) (s_9) ((t_4 - s_9.1) + 1) s_9
def mf_inWords_B68b (s_2 : Nat × Nat) (t_4 : Nat) (s_7 : Unit) : (Unit) ⊕ (Unit) :=
  (if t_4 ≤ s_2.1 then
    .inr ()
  else
    .inr ())
def mf_inWords_L68b (s_2 : Nat × Nat) (t_4 : Nat) (s_7 : Unit) : Unit := zw (mf_inWords_B68b s_2 t_4) (s_7) ((t_4 - s_2.1) + 1) s_7
def mf_inWords_B14 (zs : Nat) (fr : Nat) (en : Nat) (m_text : Nat → Int32) (s_2 : Nat × Nat) : (Nat × Nat) ⊕ ((Nat × Nat) ⊕ (Int32)) :=
  (if 116 ≤ s_2.1 then
    .inr (.inl (s_2.1, s_2.2))
  else
    zlet (mf_inWords_L25 s_2 s_2.1) (fun t_4 =>
    (if (nI (t_4 - s_2.1)) = ((nI en) - (nI fr)) then
      zlet (mf_inWords_L68 zs fr m_text s_2 t_4 (s_2.1, true)) (fun t_9 =>
      (if t_9.2 = true then
        .inr (.inr (nI s_2.2))
      else
        .inl (t_4 + 1, s_2.2 + 1)))
    else
      zlet (mf_inWords_L68b s_2 t_4 ()) (fun t_7 =>
      .inl (t_4 + 1, s_2.2 + 1)))))
def mf_inWords_L14 (zs : Nat) (fr : Nat) (en : Nat) (m_text : Nat → Int32) (s_2 : Nat × Nat) : (Nat × Nat) ⊕ (Int32) := zw (mf_inWords_B14 zs fr en m_text) (.inl s_2) ((116 - s_2.1) + 1) s_2
def mf_inWords (zs : Nat) (m_token : Int32) (fr : Nat) (en : Nat) (m_text : Nat → Int32) : Int32 :=
  (if m_token = 2 then
    zcase (mf_inWords_L14 zs fr en m_text (1, 0)) (fun t_2 =>
    (-1)) (fun r => r)
  else
    (-1))
theorem hd_X7_inWords : yX7_inWords.cls = RX7 ∧ yX7_inWords.cls ≠ "java/lang/invoke/MethodHandle" ∧ yX7_inWords.cls ≠ "java/lang/invoke/VarHandle" ∧ (parseMethodDescriptor yX7_inWords.desc).map (fun d => d.parameters.length) = some 1 := by decide +kernel
set_option maxHeartbeats 4000000 in
set_option maxRecDepth 100000 in
theorem mt_mf_inWords (l : Launch) (G : zG) (ad : Nat → Nat) (m_status : Int32) (m_top : Int64) (m_bottom : Int64) (m_taped : Int32) (zs : Nat) (m_token : Int32) (fr : Nat) (en : Nat) (m_value : Int32) (m_faultKind : Int32) (m_faultPlace : Int32) (m_faults : Int32) (m_seen : Int32) (m_depth : Int32) (m_counted : Int32) (m_lead : Int32) (m_round : Int32) (m_tried : Int32) (m_triedMany : Int32) (m_drawn : Int32) (m_ranSteps : Int32) (m_isTold : Bool) (m_marks : Int32) (m_at : Nat → Int32) (m_names : Nat → Int64) (m_sort : Nat → Int32) (m_trayMany : Nat → Int32) (m_trays : Nat → Int64) (m_tape : Nat → Int32) (m_text : Nat → Int32) (m_opened : Nat → Int32) (m_beside : Nat → Int32) (m_then : Nat → Int32) (m_ways : Nat → Int64) (m_further : Nat → Int64) (m_canBe : Nat → Int32) (m_loops : Nat → Int32) (m_ran : Nat → Int32) (m_told0 : Nat → Int32) (hzs : zs ≤ 900) (hen : en ≤ zs) (hfr : fr ≤ zs) : Met l yX7_inWords (ws_ yX7_inWords cX7_inWords 7 (some .int)) (zR 5 0 0) (zPo G [.ref (ad 0), .ref (zK G 22)] (mW G ad m_status m_top m_bottom m_taped (nI zs) m_token (nI fr) (nI en) m_value m_faultKind m_faultPlace m_faults m_seen m_depth m_counted m_lead m_round m_tried m_triedMany m_drawn m_ranSteps m_isTold m_marks m_at m_names m_sort m_trayMany m_trays m_tape m_text m_opened m_beside m_then m_ways m_further m_canBe m_loops m_ran m_told0)) (k2_QcV (.int (mf_inWords zs m_token fr en m_text))) 0 0 (fun _ => False) := by
  refine zr_entO (by decide) (Nat.le_of_ble_eq_true rfl) ?_
  intro p e s m below meth c ⟨hx, hb, hr, hml, hown, hts, hlocks, hnm⟩ ls hl hP hK hE
  have hown : s.vm.findClass RX7 = some m.cls := hown
  have hl : lv_has ls 7 [(0, .ref (ad 0)), (1, .ref (zK G 22))] := hl
  refine lv_aload_n hx hb dX7_inWords_0 rfl (lv_at hl 0 rfl) ?_
  refine va_get (D := G.1) (ci := 7) (v := .int m_token) (C := RX7) (T := TX7) (N := 39) hx hb hts in_X7 hown hK.1 hP 0 rfl rfl 12 (Nat.le_of_ble_eq_true rfl) (hts _ q1479) (fun _ h => h) rfl dX7_inWords_1 ?_
  refine lv_iconst (v := 2) hx hb dX7_inWords_4 (by decide) ?_
  refine lv_icmp_eq (tgt := 10) hx hb dX7_inWords_5 (by decide) (fun c_1 => ?_) (fun c_1 => ?_)
  · refine lv_iconst (v := 0) hx hb dX7_inWords_10 (by decide) ?_
    refine lv_istore_n (lv' := [(2, .int 0), (0, .ref (ad 0)), (1, .ref (zK G 22))]) hx hb dX7_inWords_11 rfl hl (by decide) rfl (fun ls hl => ?_)
    refine lv_iconst (v := 1) hx hb dX7_inWords_12 (by decide) ?_
    refine lv_istore_n (lv' := [(3, .int 1), (2, .int 0), (0, .ref (ad 0)), (1, .ref (zK G 22))]) hx hb dX7_inWords_13 rfl hl (by decide) rfl (fun ls hl => ?_)
    have hx_2 : ∀ t_2 : Nat × Nat, mf_inWords_L14 zs fr en m_text (1, 0) = .inl t_2 → ∀ ls : Array Slot, lv_has ls 7 [] → W p l e (zR 5 0 0) s m ([.ref (ad 0), .ref (zK G 22)] : List Value).toArray below meth c s.heap [] 0 0 (MQ below (k2_QcV (.int (mf_inWords zs m_token fr en m_text))) ([.ref (ad 0), .ref (zK G 22)] : List Value).toArray s 0 0 (fun _ => False)) (F0 m 133 ls []) := by
      intro t_2 ht_2 ls hl
      refine lv_iconst (v := (-1)) hx hb dX7_inWords_133 (by decide) ?_
      have e_ : mf_inWords zs m_token fr en m_text = (-1) := by rw [mf_inWords, if_pos c_1, zcase_l ht_2]
      exact zr_oi hx hb hr hlocks dX7_inWords_134 (congrArg Value.int e_)
    have hlp_2 : ∀ (n : Nat) (s_2 : Nat × Nat), 116 - s_2.1 < n → zw (mf_inWords_B14 zs fr en m_text) (.inl (1, 0)) n s_2 = mf_inWords_L14 zs fr en m_text (1, 0) → s_2.1 ≤ 116 → ∀ ls : Array Slot, lv_has ls 7 [(3, .int (nI s_2.1)), (2, .int (nI s_2.2)), (0, .ref (ad 0)), (1, .ref (zK G 22))] → W p l e (zR 5 0 0) s m ([.ref (ad 0), .ref (zK G 22)] : List Value).toArray below meth c s.heap [] 0 0 (MQ below (k2_QcV (.int (mf_inWords zs m_token fr en m_text))) ([.ref (ad 0), .ref (zK G 22)] : List Value).toArray s 0 0 (fun _ => False)) (F0 m 14 ls []) := by
      intro n
      induction n with
      | zero => exact fun _ h => absurd h (Nat.not_lt_zero _)
      | succ n ih_2 =>
        intro s_2 hmu_2 hR_2 hi3 ls hl
        refine lv_iload_n hx hb dX7_inWords_14 rfl (lv_at hl 0 rfl) ?_
        refine lv_aload_n hx hb dX7_inWords_15 rfl (lv_at hl 3 rfl) ?_
        refine zr_obStr ⟨hx, hb, hml, hown, hts⟩ 22 (mt_jf_length l G 22 (by decide)) (cwV 0 hts (lw_V q1683 q690 q691 q147 q692) rfl rfl rfl hd_J4_length ⟨(Nat.le_of_ble_eq_true rfl), (Nat.le_of_ble_eq_true rfl)⟩) hK hE (by decide) rfl hl.1 rfl (Nat.le_of_ble_eq_true rfl) dX7_inWords_16 ⟨Nat.le_refl _, Nat.le_refl _⟩ ?_
        refine W.eq (g2 := F0 m 19 ls [.int 116, .int (nI s_2.1)]) rfl ?_
        refine zr_ge s_2.1 116 (by omega) (by decide) (tgt := 133) hx hb dX7_inWords_19 (by decide) (fun c_3 => ?_) (fun c_3 => ?_)
        · exact hx_2 (s_2.1, s_2.2) (hR_2.symm.trans (zw_r (by rw [mf_inWords_B14, if_pos c_3]))) ls (lv_sub hl [] rfl)
        · refine lv_iload_n hx hb dX7_inWords_22 rfl (lv_at hl 0 rfl) ?_
          refine lv_istore (lv' := [(4, .int (nI s_2.1)), (3, .int (nI s_2.1)), (2, .int (nI s_2.2)), (0, .ref (ad 0)), (1, .ref (zK G 22))]) hx hb dX7_inWords_23 hl (by decide) rfl (fun ls hl => ?_)
          have hx_4 : ∀ t_4 : Nat, mf_inWords_L25 s_2 s_2.1 = t_4 → s_2.1 ≤ t_4 ∧ t_4 < 116 → ∀ ls : Array Slot, lv_has ls 7 [(4, .int (nI t_4)), (3, .int (nI s_2.1)), (2, .int (nI s_2.2)), (0, .ref (ad 0)), (1, .ref (zK G 22))] → W p l e (zR 5 0 0) s m ([.ref (ad 0), .ref (zK G 22)] : List Value).toArray below meth c s.heap [] 0 0 (MQ below (k2_QcV (.int (mf_inWords zs m_token fr en m_text))) ([.ref (ad 0), .ref (zK G 22)] : List Value).toArray s 0 0 (fun _ => False)) (F0 m 42 ls []) := by
            intro t_4 ht_4 hx4 ls hl
            refine lv_iload hx hb dX7_inWords_42 (lv_at hl 0 rfl) ?_
            refine lv_iload_n hx hb dX7_inWords_44 rfl (lv_at hl 1 rfl) ?_
            refine zr_isubN t_4 s_2.1 (by omega) hx hb dX7_inWords_45 ?_
            refine lv_aload_n hx hb dX7_inWords_46 rfl (lv_at hl 3 rfl) ?_
            refine va_get (D := G.1) (ci := 7) (v := .int (nI en)) (C := RX7) (T := TX7) (N := 39) hx hb hts in_X7 hown hK.1 hP 0 rfl rfl 14 (Nat.le_of_ble_eq_true rfl) (hts _ q1481) (fun _ h => h) rfl dX7_inWords_47 ?_
            refine lv_aload_n hx hb dX7_inWords_50 rfl (lv_at hl 3 rfl) ?_
            refine va_get (D := G.1) (ci := 7) (v := .int (nI fr)) (C := RX7) (T := TX7) (N := 39) hx hb hts in_X7 hown hK.1 hP 0 rfl rfl 13 (Nat.le_of_ble_eq_true rfl) (hts _ q1480) (fun _ h => h) rfl dX7_inWords_51 ?_
            refine lv_isub hx hb dX7_inWords_54 ?_
            refine lv_icmp_ne (tgt := 62) hx hb dX7_inWords_55 (by decide) (fun c_6 => ?_) (fun c_6 => ?_)
            · refine lv_iconst (v := 0) hx hb dX7_inWords_62 (by decide) ?_
              refine lv_istore (lv' := [(5, .int 0), (4, .int (nI t_4)), (3, .int (nI s_2.1)), (2, .int (nI s_2.2)), (0, .ref (ad 0)), (1, .ref (zK G 22))]) hx hb dX7_inWords_63 hl (by decide) rfl (fun ls hl => ?_)
              refine lv_iload_n hx hb dX7_inWords_65 rfl (lv_at hl 2 rfl) ?_
              refine lv_istore (lv' := [(6, .int (nI s_2.1)), (5, .int 0), (4, .int (nI t_4)), (3, .int (nI s_2.1)), (2, .int (nI s_2.2)), (0, .ref (ad 0)), (1, .ref (zK G 22))]) hx hb dX7_inWords_66 hl (by decide) rfl (fun ls hl => ?_)
              have hx_7 : ∀ t_7 : Unit, mf_inWords_L68b s_2 t_4 () = t_7 → ∀ ls : Array Slot, lv_has ls 7 [(5, .int 0), (4, .int (nI t_4)), (2, .int (nI s_2.2)), (0, .ref (ad 0)), (1, .ref (zK G 22))] → W p l e (zR 5 0 0) s m ([.ref (ad 0), .ref (zK G 22)] : List Value).toArray below meth c s.heap [] 0 0 (MQ below (k2_QcV (.int (mf_inWords zs m_token fr en m_text))) ([.ref (ad 0), .ref (zK G 22)] : List Value).toArray s 0 0 (fun _ => False)) (F0 m 115 ls []) := by
                intro t_7 ht_7 ls hl
                refine lv_iload hx hb dX7_inWords_115 (lv_at hl 0 rfl) ?_
                refine lv_if_eq (tgt := 122) hx hb dX7_inWords_117 (by decide) (fun _ => ?_) (fun z => absurd (by decide) z)
                refine lv_iinc (v := nI (s_2.2 + 1)) (lv' := [(2, .int (nI (s_2.2 + 1))), (5, .int 0), (4, .int (nI t_4)), (0, .ref (ad 0)), (1, .ref (zK G 22))]) hx hb dX7_inWords_122 hl (k := 2) rfl (nI_add s_2.2 1) (by decide) rfl (fun ls hl => ?_)
                refine lv_iload hx hb dX7_inWords_125 (lv_at hl 2 rfl) ?_
                refine lv_iconst (v := 1) hx hb dX7_inWords_127 (by decide) ?_
                refine zr_iaddN t_4 1 hx hb dX7_inWords_128 ?_
                refine lv_istore_n (lv' := [(3, .int (nI (t_4 + 1))), (2, .int (nI (s_2.2 + 1))), (5, .int 0), (4, .int (nI t_4)), (0, .ref (ad 0)), (1, .ref (zK G 22))]) hx hb dX7_inWords_129 rfl hl (by decide) rfl (fun ls hl => ?_)
                refine lv_goto (tgt := 14) hx hb dX7_inWords_130 (by decide) ?_
                exact ih_2 (t_4 + 1, s_2.2 + 1) (by omega) ((zw_l (by rw [mf_inWords_B14, if_neg c_3, zlet_eq ht_4, if_neg c_6, zlet_eq ht_7])).symm.trans hR_2) (by omega) ls (lv_sub hl [0, 1, 4, 5] rfl)
              have hlp_7 : ∀ (n : Nat) (s_7 : Unit), t_4 - s_2.1 < n → zw (mf_inWords_B68b s_2 t_4) () n s_7 = mf_inWords_L68b s_2 t_4 () → s_2.1 ≤ s_2.1 ∧ s_2.1 ≤ t_4 → ∀ ls : Array Slot, lv_has ls 7 [(6, .int (nI s_2.1)), (5, .int 0), (4, .int (nI t_4)), (3, .int (nI s_2.1)), (2, .int (nI s_2.2)), (0, .ref (ad 0)), (1, .ref (zK G 22))] → W p l e (zR 5 0 0) s m ([.ref (ad 0), .ref (zK G 22)] : List Value).toArray below meth c s.heap [] 0 0 (MQ below (k2_QcV (.int (mf_inWords zs m_token fr en m_text))) ([.ref (ad 0), .ref (zK G 22)] : List Value).toArray s 0 0 (fun _ => False)) (F0 m 68 ls []) := by
                intro n
                induction n with
                | zero => exact fun _ h => absurd h (Nat.not_lt_zero _)
                | succ n ih_7 =>
                  intro s_7 hmu_7 hR_7 hi6 ls hl
                  refine lv_iload hx hb dX7_inWords_68 (lv_at hl 0 rfl) ?_
                  refine lv_iload hx hb dX7_inWords_70 (lv_at hl 2 rfl) ?_
                  refine zr_ge s_2.1 t_4 (by omega) (by omega) (tgt := 115) hx hb dX7_inWords_72 (by decide) (fun c_8 => ?_) (fun c_8 => ?_)
                  · exact hx_7 () (hR_7.symm.trans (zw_r (by rw [mf_inWords_B68b, if_pos c_8]))) ls (lv_sub hl [1, 2, 4, 5, 6] rfl)
                  · refine lv_iload hx hb dX7_inWords_75 (lv_at hl 1 rfl) ?_
                    refine lv_if_eq (tgt := 115) hx hb dX7_inWords_77 (by decide) (fun _ => ?_) (fun z => absurd (by decide) z)
                    exact hx_7 () (hR_7.symm.trans (zw_r (by rw [mf_inWords_B68b, if_neg c_8]))) ls (lv_sub hl [1, 2, 4, 5, 6] rfl)
              exact hlp_7 _ () (Nat.lt_succ_self _) (by rw [mf_inWords_L68b]) (by omega) ls (lv_sub hl [0, 1, 2, 3, 4, 5, 6] rfl)
            · refine lv_iconst (v := 1) hx hb dX7_inWords_58 (by decide) ?_
              refine lv_goto (tgt := 63) hx hb dX7_inWords_59 (by decide) ?_
              refine lv_istore (lv' := [(5, .int 1), (4, .int (nI t_4)), (3, .int (nI s_2.1)), (2, .int (nI s_2.2)), (0, .ref (ad 0)), (1, .ref (zK G 22))]) hx hb dX7_inWords_63 hl (by decide) rfl (fun ls hl => ?_)
              refine lv_iload_n hx hb dX7_inWords_65 rfl (lv_at hl 2 rfl) ?_
              refine lv_istore (lv' := [(6, .int (nI s_2.1)), (5, .int 1), (4, .int (nI t_4)), (3, .int (nI s_2.1)), (2, .int (nI s_2.2)), (0, .ref (ad 0)), (1, .ref (zK G 22))]) hx hb dX7_inWords_66 hl (by decide) rfl (fun ls hl => ?_)
              have hx_9 : ∀ t_9 : Nat × Bool, mf_inWords_L68 zs fr m_text s_2 t_4 (s_2.1, true) = t_9 → ∀ ls : Array Slot, lv_has ls 7 [(5, .int (zb t_9.2)), (4, .int (nI t_4)), (2, .int (nI s_2.2)), (0, .ref (ad 0)), (1, .ref (zK G 22))] → W p l e (zR 5 0 0) s m ([.ref (ad 0), .ref (zK G 22)] : List Value).toArray below meth c s.heap [] 0 0 (MQ below (k2_QcV (.int (mf_inWords zs m_token fr en m_text))) ([.ref (ad 0), .ref (zK G 22)] : List Value).toArray s 0 0 (fun _ => False)) (F0 m 115 ls []) := by
                intro t_9 ht_9 ls hl
                refine lv_iload hx hb dX7_inWords_115 (lv_at hl 0 rfl) ?_
                refine zr_eqB t_9.2 (tgt := 122) hx hb dX7_inWords_117 (by decide) (fun c_13 => ?_) (fun c_13 => ?_)
                · refine lv_iinc (v := nI (s_2.2 + 1)) (lv' := [(2, .int (nI (s_2.2 + 1))), (5, .int (zb t_9.2)), (4, .int (nI t_4)), (0, .ref (ad 0)), (1, .ref (zK G 22))]) hx hb dX7_inWords_122 hl (k := 2) rfl (nI_add s_2.2 1) (by decide) rfl (fun ls hl => ?_)
                  refine lv_iload hx hb dX7_inWords_125 (lv_at hl 2 rfl) ?_
                  refine lv_iconst (v := 1) hx hb dX7_inWords_127 (by decide) ?_
                  refine zr_iaddN t_4 1 hx hb dX7_inWords_128 ?_
                  refine lv_istore_n (lv' := [(3, .int (nI (t_4 + 1))), (2, .int (nI (s_2.2 + 1))), (5, .int (zb t_9.2)), (4, .int (nI t_4)), (0, .ref (ad 0)), (1, .ref (zK G 22))]) hx hb dX7_inWords_129 rfl hl (by decide) rfl (fun ls hl => ?_)
                  refine lv_goto (tgt := 14) hx hb dX7_inWords_130 (by decide) ?_
                  exact ih_2 (t_4 + 1, s_2.2 + 1) (by omega) ((zw_l (by rw [mf_inWords_B14, if_neg c_3, zlet_eq ht_4, if_pos c_6, zlet_eq ht_9, if_neg c_13])).symm.trans hR_2) (by omega) ls (lv_sub hl [0, 1, 4, 5] rfl)
                · refine lv_iload_n hx hb dX7_inWords_120 rfl (lv_at hl 2 rfl) ?_
                  have hr_2 : mf_inWords_L14 zs fr en m_text (1, 0) = .inr (nI s_2.2) := hR_2.symm.trans (zw_r (by rw [mf_inWords_B14, if_neg c_3, zlet_eq ht_4, if_pos c_6, zlet_eq ht_9, if_pos c_13]))
                  have e_ : mf_inWords zs m_token fr en m_text = nI s_2.2 := by rw [mf_inWords, if_pos c_1, zcase_r hr_2]
                  exact zr_oi hx hb hr hlocks dX7_inWords_121 (congrArg Value.int e_)
              have hlp_9 : ∀ (n : Nat) (s_9 : Nat × Bool), t_4 - s_9.1 < n → zw (mf_inWords_B68 zs fr m_text s_2 t_4) (s_2.1, true) n s_9 = mf_inWords_L68 zs fr m_text s_2 t_4 (s_2.1, true) → s_2.1 ≤ s_9.1 ∧ s_9.1 ≤ t_4 → ∀ ls : Array Slot, lv_has ls 7 [(6, .int (nI s_9.1)), (5, .int (zb s_9.2)), (4, .int (nI t_4)), (3, .int (nI s_2.1)), (2, .int (nI s_2.2)), (0, .ref (ad 0)), (1, .ref (zK G 22))] → W p l e (zR 5 0 0) s m ([.ref (ad 0), .ref (zK G 22)] : List Value).toArray below meth c s.heap [] 0 0 (MQ below (k2_QcV (.int (mf_inWords zs m_token fr en m_text))) ([.ref (ad 0), .ref (zK G 22)] : List Value).toArray s 0 0 (fun _ => False)) (F0 m 68 ls []) := by
                intro n
                induction n with
                | zero => exact fun _ h => absurd h (Nat.not_lt_zero _)
                | succ n ih_9 =>
                  intro s_9 hmu_9 hR_9 hi6 ls hl
                  refine lv_iload hx hb dX7_inWords_68 (lv_at hl 0 rfl) ?_
                  refine lv_iload hx hb dX7_inWords_70 (lv_at hl 2 rfl) ?_
                  refine zr_ge s_9.1 t_4 (by omega) (by omega) (tgt := 115) hx hb dX7_inWords_72 (by decide) (fun c_10 => ?_) (fun c_10 => ?_)
                  · exact hx_9 (s_9.1, s_9.2) (hR_9.symm.trans (zw_r (by rw [mf_inWords_B68, if_pos c_10]))) ls (lv_sub hl [1, 2, 4, 5, 6] rfl)
                  · refine lv_iload hx hb dX7_inWords_75 (lv_at hl 1 rfl) ?_
                    refine zr_eqB s_9.2 (tgt := 115) hx hb dX7_inWords_77 (by decide) (fun c_11 => ?_) (fun c_11 => ?_)
                    · exact hx_9 (s_9.1, s_9.2) (hR_9.symm.trans (zw_r (by rw [mf_inWords_B68, if_neg c_10, if_neg c_11]))) ls (lv_sub hl [1, 2, 4, 5, 6] rfl)
                    · refine lv_aload_n hx hb dX7_inWords_80 rfl (lv_at hl 6 rfl) ?_
                      refine lv_iload hx hb dX7_inWords_81 (lv_at hl 0 rfl) ?_
                      refine zr_obStr ⟨hx, hb, hml, hown, hts⟩ 22 (mt_jf_charAt l G 22 (by decide) s_9.1 (show s_9.1 < 116 by omega)) (cwV 1 hts (lw_V q1684 q700 q701 q147 q702) rfl rfl rfl hd_J4_charAt ⟨(Nat.le_of_ble_eq_true rfl), (Nat.le_of_ble_eq_true rfl)⟩) hK hE (by decide) rfl hl.1 rfl (Nat.le_of_ble_eq_true rfl) dX7_inWords_83 ⟨Nat.le_refl _, Nat.le_refl _⟩ ?_
                      refine lv_aload_n hx hb dX7_inWords_86 rfl (lv_at hl 5 rfl) ?_
                      refine lv_aload_n hx hb dX7_inWords_87 rfl (lv_at hl 5 rfl) ?_
                      refine va_get (D := G.1) (ci := 7) (v := .int (nI fr)) (C := RX7) (T := TX7) (N := 39) hx hb hts in_X7 hown hK.1 hP 0 rfl rfl 13 (Nat.le_of_ble_eq_true rfl) (hts _ q1480) (fun _ h => h) rfl dX7_inWords_88 ?_
                      refine lv_iload hx hb dX7_inWords_91 (lv_at hl 0 rfl) ?_
                      refine zr_iaddN fr s_9.1 hx hb dX7_inWords_93 ?_
                      refine lv_iload_n hx hb dX7_inWords_94 rfl (lv_at hl 3 rfl) ?_
                      refine zr_isubN (fr + s_9.1) s_2.1 (by omega) hx hb dX7_inWords_95 ?_
                      refine zr_obV ⟨hx, hb, hml, hown, hts⟩ (mt_mf_byteAt l G ad m_status m_top m_bottom m_taped zs m_token (nI fr) (nI en) m_value m_faultKind m_faultPlace m_faults m_seen m_depth m_counted m_lead m_round m_tried m_triedMany m_drawn m_ranSteps m_isTold m_marks m_at m_names m_sort m_trayMany m_trays m_tape m_text m_opened m_beside m_then m_ways m_further m_canBe m_loops m_ran m_told0 ((fr + s_9.1) - s_2.1) hzs (by omega)) (cwV 1 hts (lw_V q1652 q1654 qs65 q144 q1655) rfl rfl rfl hd_X7_byteAt ⟨(Nat.le_of_ble_eq_true rfl), (Nat.le_of_ble_eq_true rfl)⟩) hP hK hE 0 7 rfl rfl rfl hl.1 rfl (Nat.le_of_ble_eq_true rfl) dX7_inWords_96 ⟨Nat.le_refl _, Nat.le_refl _⟩ ?_
                      refine lv_icmp_ne (tgt := 106) hx hb dX7_inWords_99 (by decide) (fun c_12 => ?_) (fun c_12 => ?_)
                      · refine lv_iconst (v := 0) hx hb dX7_inWords_106 (by decide) ?_
                        refine lv_istore (lv' := [(5, .int 0), (6, .int (nI s_9.1)), (4, .int (nI t_4)), (3, .int (nI s_2.1)), (2, .int (nI s_2.2)), (0, .ref (ad 0)), (1, .ref (zK G 22))]) hx hb dX7_inWords_107 hl (by decide) rfl (fun ls hl => ?_)
                        refine lv_iinc (v := nI (s_9.1 + 1)) (lv' := [(6, .int (nI (s_9.1 + 1))), (5, .int 0), (4, .int (nI t_4)), (3, .int (nI s_2.1)), (2, .int (nI s_2.2)), (0, .ref (ad 0)), (1, .ref (zK G 22))]) hx hb dX7_inWords_109 hl (k := 1) rfl (nI_add s_9.1 1) (by decide) rfl (fun ls hl => ?_)
                        refine lv_goto (tgt := 68) hx hb dX7_inWords_112 (by decide) ?_
                        exact ih_9 (s_9.1 + 1, false) (by omega) ((zw_l (by rw [mf_inWords_B68, if_neg c_10, if_pos c_11, if_neg c_12])).symm.trans hR_9) (by omega) ls (lv_sub hl [0, 1, 2, 3, 4, 5, 6] rfl)
                      · refine lv_iconst (v := 1) hx hb dX7_inWords_102 (by decide) ?_
                        refine lv_goto (tgt := 107) hx hb dX7_inWords_103 (by decide) ?_
                        refine lv_istore (lv' := [(5, .int 1), (6, .int (nI s_9.1)), (4, .int (nI t_4)), (3, .int (nI s_2.1)), (2, .int (nI s_2.2)), (0, .ref (ad 0)), (1, .ref (zK G 22))]) hx hb dX7_inWords_107 hl (by decide) rfl (fun ls hl => ?_)
                        refine lv_iinc (v := nI (s_9.1 + 1)) (lv' := [(6, .int (nI (s_9.1 + 1))), (5, .int 1), (4, .int (nI t_4)), (3, .int (nI s_2.1)), (2, .int (nI s_2.2)), (0, .ref (ad 0)), (1, .ref (zK G 22))]) hx hb dX7_inWords_109 hl (k := 1) rfl (nI_add s_9.1 1) (by decide) rfl (fun ls hl => ?_)
                        refine lv_goto (tgt := 68) hx hb dX7_inWords_112 (by decide) ?_
                        exact ih_9 (s_9.1 + 1, true) (by omega) ((zw_l (by rw [mf_inWords_B68, if_neg c_10, if_pos c_11, if_pos c_12])).symm.trans hR_9) (by omega) ls (lv_sub hl [0, 1, 2, 3, 4, 5, 6] rfl)
              exact hlp_9 _ (s_2.1, true) (Nat.lt_succ_self _) (by rw [mf_inWords_L68]) (by omega) ls (lv_sub hl [0, 1, 2, 3, 4, 5, 6] rfl)
          have hlp_4 : ∀ (n : Nat) (s_4 : Nat), 116 - s_4 < n → zw (mf_inWords_B25 s_2) s_2.1 n s_4 = mf_inWords_L25 s_2 s_2.1 → s_2.1 ≤ s_4 ∧ s_4 < 116 → ∀ ls : Array Slot, lv_has ls 7 [(4, .int (nI s_4)), (3, .int (nI s_2.1)), (2, .int (nI s_2.2)), (0, .ref (ad 0)), (1, .ref (zK G 22))] → W p l e (zR 5 0 0) s m ([.ref (ad 0), .ref (zK G 22)] : List Value).toArray below meth c s.heap [] 0 0 (MQ below (k2_QcV (.int (mf_inWords zs m_token fr en m_text))) ([.ref (ad 0), .ref (zK G 22)] : List Value).toArray s 0 0 (fun _ => False)) (F0 m 25 ls []) := by
            intro n
            induction n with
            | zero => exact fun _ h => absurd h (Nat.not_lt_zero _)
            | succ n ih_4 =>
              intro s_4 hmu_4 hR_4 hi4 ls hl
              refine lv_aload_n hx hb dX7_inWords_25 rfl (lv_at hl 4 rfl) ?_
              refine lv_iload hx hb dX7_inWords_26 (lv_at hl 0 rfl) ?_
              refine zr_obStr ⟨hx, hb, hml, hown, hts⟩ 22 (mt_jf_charAt l G 22 (by decide) s_4 (show s_4 < 116 by omega)) (cwV 1 hts (lw_V q1684 q700 q701 q147 q702) rfl rfl rfl hd_J4_charAt ⟨(Nat.le_of_ble_eq_true rfl), (Nat.le_of_ble_eq_true rfl)⟩) hK hE (by decide) rfl hl.1 rfl (Nat.le_of_ble_eq_true rfl) dX7_inWords_28 ⟨Nat.le_refl _, Nat.le_refl _⟩ ?_
              refine lv_bipush (v := 32) hx hb dX7_inWords_31 (by decide) ?_
              refine lv_icmp_eq (tgt := 42) hx hb dX7_inWords_33 (by decide) (fun c_5 => ?_) (fun c_5 => ?_)
              · exact hx_4 s_4 (hR_4.symm.trans (zw_r (by rw [mf_inWords_B25, if_pos c_5]))) hi4 ls (lv_sub hl [0, 1, 2, 3, 4] rfl)
              · have hne := zch_end c_5
                refine lv_iinc (v := nI (s_4 + 1)) (lv' := [(4, .int (nI (s_4 + 1))), (3, .int (nI s_2.1)), (2, .int (nI s_2.2)), (0, .ref (ad 0)), (1, .ref (zK G 22))]) hx hb dX7_inWords_36 hl (k := 0) rfl (nI_add s_4 1) (by decide) rfl (fun ls hl => ?_)
                refine lv_goto (tgt := 25) hx hb dX7_inWords_39 (by decide) ?_
                exact ih_4 (s_4 + 1) (by omega) ((zw_l (by rw [mf_inWords_B25, if_neg c_5])).symm.trans hR_4) (by omega) ls (lv_sub hl [0, 1, 2, 3, 4] rfl)
          exact hlp_4 _ s_2.1 (Nat.lt_succ_self _) (by rw [mf_inWords_L25]) (by omega) ls (lv_sub hl [0, 1, 2, 3, 4] rfl)
    exact hlp_2 _ (1, 0) (Nat.lt_succ_self _) (by rw [mf_inWords_L14]) (by omega) ls (lv_sub hl [0, 1, 2, 3] rfl)
  · refine lv_iconst (v := (-1)) hx hb dX7_inWords_8 (by decide) ?_
    have e_ : mf_inWords zs m_token fr en m_text = (-1) := by rw [mf_inWords, if_neg c_1]
    exact zr_oi hx hb hr hlocks dX7_inWords_9 (congrArg Value.int e_)
def mf_isName (zs : Nat) (m_token : Int32) (fr : Nat) (en : Nat) (m_text : Nat → Int32) : Bool :=
  (if m_token = 2 then
    (if 8 < ((nI en) - (nI fr)) then
      false
    else
      (if (mf_inWords zs m_token fr en m_text) = (-1) then
        true
      else
        false))
  else
    false)
theorem hd_X7_isName : yX7_isName.cls = RX7 ∧ yX7_isName.cls ≠ "java/lang/invoke/MethodHandle" ∧ yX7_isName.cls ≠ "java/lang/invoke/VarHandle" ∧ (parseMethodDescriptor yX7_isName.desc).map (fun d => d.parameters.length) = some 1 := by decide +kernel
set_option maxHeartbeats 4000000 in
set_option maxRecDepth 100000 in
theorem mt_mf_isName (l : Launch) (G : zG) (ad : Nat → Nat) (m_status : Int32) (m_top : Int64) (m_bottom : Int64) (m_taped : Int32) (zs : Nat) (m_token : Int32) (fr : Nat) (en : Nat) (m_value : Int32) (m_faultKind : Int32) (m_faultPlace : Int32) (m_faults : Int32) (m_seen : Int32) (m_depth : Int32) (m_counted : Int32) (m_lead : Int32) (m_round : Int32) (m_tried : Int32) (m_triedMany : Int32) (m_drawn : Int32) (m_ranSteps : Int32) (m_isTold : Bool) (m_marks : Int32) (m_at : Nat → Int32) (m_names : Nat → Int64) (m_sort : Nat → Int32) (m_trayMany : Nat → Int32) (m_trays : Nat → Int64) (m_tape : Nat → Int32) (m_text : Nat → Int32) (m_opened : Nat → Int32) (m_beside : Nat → Int32) (m_then : Nat → Int32) (m_ways : Nat → Int64) (m_further : Nat → Int64) (m_canBe : Nat → Int32) (m_loops : Nat → Int32) (m_ran : Nat → Int32) (m_told0 : Nat → Int32) (hzs : zs ≤ 900) (hen : en ≤ zs) (hfr : fr ≤ zs) : Met l yX7_isName (ws_ yX7_isName cX7_isName 2 (some .boolean)) (zR 6 0 0) (zPo G [.ref (ad 0), .ref (zK G 22)] (mW G ad m_status m_top m_bottom m_taped (nI zs) m_token (nI fr) (nI en) m_value m_faultKind m_faultPlace m_faults m_seen m_depth m_counted m_lead m_round m_tried m_triedMany m_drawn m_ranSteps m_isTold m_marks m_at m_names m_sort m_trayMany m_trays m_tape m_text m_opened m_beside m_then m_ways m_further m_canBe m_loops m_ran m_told0)) (k2_QcV (.int (zb (mf_isName zs m_token fr en m_text)))) 0 0 (fun _ => False) := by
  refine zr_entO (by decide) (Nat.le_of_ble_eq_true rfl) ?_
  intro p e s m below meth c ⟨hx, hb, hr, hml, hown, hts, hlocks, hnm⟩ ls hl hP hK hE
  have hown : s.vm.findClass RX7 = some m.cls := hown
  have hl : lv_has ls 2 [(0, .ref (ad 0)), (1, .ref (zK G 22))] := hl
  refine lv_aload_n hx hb dX7_isName_0 rfl (lv_at hl 0 rfl) ?_
  refine va_get (D := G.1) (ci := 7) (v := .int m_token) (C := RX7) (T := TX7) (N := 39) hx hb hts in_X7 hown hK.1 hP 0 rfl rfl 12 (Nat.le_of_ble_eq_true rfl) (hts _ q1479) (fun _ h => h) rfl dX7_isName_1 ?_
  refine lv_iconst (v := 2) hx hb dX7_isName_4 (by decide) ?_
  refine lv_icmp_ne (tgt := 35) hx hb dX7_isName_5 (by decide) (fun c_1 => ?_) (fun c_1 => ?_)
  · refine lv_iconst (v := 0) hx hb dX7_isName_35 (by decide) ?_
    have e_ : mf_isName zs m_token fr en m_text = false := by rw [mf_isName, if_neg c_1]
    exact zr_oz hx hb hr hlocks dX7_isName_36 rfl (congrArg (fun z => Value.int (zb z)) e_)
  · refine lv_aload_n hx hb dX7_isName_8 rfl (lv_at hl 0 rfl) ?_
    refine va_get (D := G.1) (ci := 7) (v := .int (nI en)) (C := RX7) (T := TX7) (N := 39) hx hb hts in_X7 hown hK.1 hP 0 rfl rfl 14 (Nat.le_of_ble_eq_true rfl) (hts _ q1481) (fun _ h => h) rfl dX7_isName_9 ?_
    refine lv_aload_n hx hb dX7_isName_12 rfl (lv_at hl 0 rfl) ?_
    refine va_get (D := G.1) (ci := 7) (v := .int (nI fr)) (C := RX7) (T := TX7) (N := 39) hx hb hts in_X7 hown hK.1 hP 0 rfl rfl 13 (Nat.le_of_ble_eq_true rfl) (hts _ q1480) (fun _ h => h) rfl dX7_isName_13 ?_
    refine lv_isub hx hb dX7_isName_16 ?_
    refine lv_bipush (v := 8) hx hb dX7_isName_17 (by decide) ?_
    refine lv_icmp_gt (tgt := 35) hx hb dX7_isName_19 (by decide) (fun c_2 => ?_) (fun c_2 => ?_)
    · refine lv_iconst (v := 0) hx hb dX7_isName_35 (by decide) ?_
      have e_ : mf_isName zs m_token fr en m_text = false := by rw [mf_isName, if_pos c_1, if_pos c_2]
      exact zr_oz hx hb hr hlocks dX7_isName_36 rfl (congrArg (fun z => Value.int (zb z)) e_)
    · refine lv_aload_n hx hb dX7_isName_22 rfl (lv_at hl 0 rfl) ?_
      refine lv_aload_n hx hb dX7_isName_23 rfl (lv_at hl 1 rfl) ?_
      refine zr_obV ⟨hx, hb, hml, hown, hts⟩ (mt_mf_inWords l G ad m_status m_top m_bottom m_taped zs m_token fr en m_value m_faultKind m_faultPlace m_faults m_seen m_depth m_counted m_lead m_round m_tried m_triedMany m_drawn m_ranSteps m_isTold m_marks m_at m_names m_sort m_trayMany m_trays m_tape m_text m_opened m_beside m_then m_ways m_further m_canBe m_loops m_ran m_told0 hzs hen hfr) (cwV 1 hts (lw_V q1679 q1681 qs69 q144 q1682) rfl rfl rfl hd_X7_inWords ⟨(Nat.le_of_ble_eq_true rfl), (Nat.le_of_ble_eq_true rfl)⟩) hP hK hE 0 7 rfl rfl rfl hl.1 rfl (Nat.le_of_ble_eq_true rfl) dX7_isName_24 ⟨Nat.le_refl _, Nat.le_refl _⟩ ?_
      refine lv_iconst (v := (-1)) hx hb dX7_isName_27 (by decide) ?_
      refine lv_icmp_ne (tgt := 35) hx hb dX7_isName_28 (by decide) (fun c_3 => ?_) (fun c_3 => ?_)
      · refine lv_iconst (v := 0) hx hb dX7_isName_35 (by decide) ?_
        have e_ : mf_isName zs m_token fr en m_text = false := by rw [mf_isName, if_pos c_1, if_neg c_2, if_neg c_3]
        exact zr_oz hx hb hr hlocks dX7_isName_36 rfl (congrArg (fun z => Value.int (zb z)) e_)
      · refine lv_iconst (v := 1) hx hb dX7_isName_31 (by decide) ?_
        refine lv_goto (tgt := 36) hx hb dX7_isName_32 (by decide) ?_
        have e_ : mf_isName zs m_token fr en m_text = true := by rw [mf_isName, if_pos c_1, if_neg c_2, if_pos c_3]
        exact zr_oz hx hb hr hlocks dX7_isName_36 rfl (congrArg (fun z => Value.int (zb z)) e_)
theorem isSign_tok {tok v ch : Int32} (h : mf_isSign tok v ch = true) : tok = 4 := by
  unfold mf_isSign at h
  split at h
  · assumption
  · cases h
theorem isName_tok {m_text : Nat → Int32} {zs fr en : Nat} {tok : Int32} (h : mf_isName zs tok fr en m_text = true) : ¬ tok = 0 := by
  unfold mf_isName at h
  split at h
  · rename_i q; rw [q]; decide
  · cases h
def mf_wantSign (zs : Nat) (m_token : Int32) (fr : Nat) (en : Nat) (m_value : Int32) (m_faultPlace : Int32) (m_faults : Int32) (m_text : Nat → Int32) (ch : Int32) : Bool × Int32 × Nat × Nat × Int32 × Int32 × Int32 :=
  (if (mf_isSign m_token m_value ch) = true then
    zlet (mf_onward zs en m_text) (fun t_2 =>
    (true, t_2.1, t_2.2.1, t_2.2.2.1, t_2.2.2.2, m_faultPlace, m_faults))
  else
    zlet (mf_fails m_token fr m_faultPlace m_faults 2) (fun t_3 =>
    (t_3.1, m_token, fr, en, m_value, t_3.2.1, t_3.2.2)))
theorem hd_X7_wantSign : yX7_wantSign.cls = RX7 ∧ yX7_wantSign.cls ≠ "java/lang/invoke/MethodHandle" ∧ yX7_wantSign.cls ≠ "java/lang/invoke/VarHandle" ∧ (parseMethodDescriptor yX7_wantSign.desc).map (fun d => d.parameters.length) = some 1 := by decide +kernel
set_option maxHeartbeats 4000000 in
set_option maxRecDepth 100000 in
theorem mt_mf_wantSign (l : Launch) (G : zG) (ad : Nat → Nat) (m_status : Int32) (m_top : Int64) (m_bottom : Int64) (m_taped : Int32) (zs : Nat) (m_token : Int32) (fr : Nat) (en : Nat) (m_value : Int32) (m_faultKind : Int32) (m_faultPlace : Int32) (m_faults : Int32) (m_seen : Int32) (m_depth : Int32) (m_counted : Int32) (m_lead : Int32) (m_round : Int32) (m_tried : Int32) (m_triedMany : Int32) (m_drawn : Int32) (m_ranSteps : Int32) (m_isTold : Bool) (m_marks : Int32) (m_at : Nat → Int32) (m_names : Nat → Int64) (m_sort : Nat → Int32) (m_trayMany : Nat → Int32) (m_trays : Nat → Int64) (m_tape : Nat → Int32) (m_text : Nat → Int32) (m_opened : Nat → Int32) (m_beside : Nat → Int32) (m_then : Nat → Int32) (m_ways : Nat → Int64) (m_further : Nat → Int64) (m_canBe : Nat → Int32) (m_loops : Nat → Int32) (m_ran : Nat → Int32) (m_told0 : Nat → Int32) (ch : Int32) (hzs : zs ≤ 900) (hen : en ≤ zs) (hfr : fr ≤ zs) (sz : Nat) : Met l yX7_wantSign (ws_ yX7_wantSign cX7_wantSign 2 (some .boolean)) (zR 3 0 0) (zPm G sz [.ref (ad 0), .int ch] (mW G ad m_status m_top m_bottom m_taped (nI zs) m_token (nI fr) (nI en) m_value m_faultKind m_faultPlace m_faults m_seen m_depth m_counted m_lead m_round m_tried m_triedMany m_drawn m_ranSteps m_isTold m_marks m_at m_names m_sort m_trayMany m_trays m_tape m_text m_opened m_beside m_then m_ways m_further m_canBe m_loops m_ran m_told0)) (zQm G ((mf_wantSign zs m_token fr en m_value m_faultPlace m_faults m_text ch).2.2.2.1 ≤ zs ∧ (mf_wantSign zs m_token fr en m_value m_faultPlace m_faults m_text ch).2.2.1 ≤ zs ∧ en ≤ ((mf_wantSign zs m_token fr en m_value m_faultPlace m_faults m_text ch).2.2.2.1) ∧ (((mf_wantSign zs m_token fr en m_value m_faultPlace m_faults m_text ch).1) = false ∨ ((mf_wantSign zs m_token fr en m_value m_faultPlace m_faults m_text ch).2.1) = 0 ∨ en < ((mf_wantSign zs m_token fr en m_value m_faultPlace m_faults m_text ch).2.2.2.1)) ∧ (((mf_wantSign zs m_token fr en m_value m_faultPlace m_faults m_text ch).1) = false ∨ ¬ m_token = 0)) (some (.int (zb ((mf_wantSign zs m_token fr en m_value m_faultPlace m_faults m_text ch).1)))) (mW G ad m_status m_top m_bottom m_taped (nI zs) ((mf_wantSign zs m_token fr en m_value m_faultPlace m_faults m_text ch).2.1) (nI ((mf_wantSign zs m_token fr en m_value m_faultPlace m_faults m_text ch).2.2.1)) (nI ((mf_wantSign zs m_token fr en m_value m_faultPlace m_faults m_text ch).2.2.2.1)) ((mf_wantSign zs m_token fr en m_value m_faultPlace m_faults m_text ch).2.2.2.2.1) m_faultKind ((mf_wantSign zs m_token fr en m_value m_faultPlace m_faults m_text ch).2.2.2.2.2.1) ((mf_wantSign zs m_token fr en m_value m_faultPlace m_faults m_text ch).2.2.2.2.2.2) m_seen m_depth m_counted m_lead m_round m_tried m_triedMany m_drawn m_ranSteps m_isTold m_marks m_at m_names m_sort m_trayMany m_trays m_tape m_text m_opened m_beside m_then m_ways m_further m_canBe m_loops m_ran m_told0) (va_A (mW G ad m_status m_top m_bottom m_taped (nI zs) m_token (nI fr) (nI en) m_value m_faultKind m_faultPlace m_faults m_seen m_depth m_counted m_lead m_round m_tried m_triedMany m_drawn m_ranSteps m_isTold m_marks m_at m_names m_sort m_trayMany m_trays m_tape m_text m_opened m_beside m_then m_ways m_further m_canBe m_loops m_ran m_told0) sz)) 0 0 (va_A (mW G ad m_status m_top m_bottom m_taped (nI zs) m_token (nI fr) (nI en) m_value m_faultKind m_faultPlace m_faults m_seen m_depth m_counted m_lead m_round m_tried m_triedMany m_drawn m_ranSteps m_isTold m_marks m_at m_names m_sort m_trayMany m_trays m_tape m_text m_opened m_beside m_then m_ways m_further m_canBe m_loops m_ran m_told0) sz) := by
  refine zr_entM (by decide) (Nat.le_of_ble_eq_true rfl) ?_
  intro p e s m below meth c ⟨hx, hb, hr, hml, hown, hts, hlocks, hnm⟩ ls hl hP hK A hE hA hD hS
  have hown : s.vm.findClass RX7 = some m.cls := hown
  have hl : lv_has ls 2 [(0, .ref (ad 0)), (1, .int ch)] := hl
  obtain ⟨H, hH⟩ : ∃ H, H = s.heap := ⟨_, rfl⟩
  obtain ⟨locs, hlo⟩ : ∃ L : List Loc, L = [] := ⟨_, rfl⟩
  rw [← hH] at hP
  have hS : va_S A s.heap H locs := by rw [hH, hlo]; exact va_S.rf
  have hgo : W p l e (zR 3 0 0) s m ([.ref (ad 0), .int ch] : List Value).toArray below meth c H locs 0 0 (MQ below (zQm G ((mf_wantSign zs m_token fr en m_value m_faultPlace m_faults m_text ch).2.2.2.1 ≤ zs ∧ (mf_wantSign zs m_token fr en m_value m_faultPlace m_faults m_text ch).2.2.1 ≤ zs ∧ en ≤ ((mf_wantSign zs m_token fr en m_value m_faultPlace m_faults m_text ch).2.2.2.1) ∧ (((mf_wantSign zs m_token fr en m_value m_faultPlace m_faults m_text ch).1) = false ∨ ((mf_wantSign zs m_token fr en m_value m_faultPlace m_faults m_text ch).2.1) = 0 ∨ en < ((mf_wantSign zs m_token fr en m_value m_faultPlace m_faults m_text ch).2.2.2.1)) ∧ (((mf_wantSign zs m_token fr en m_value m_faultPlace m_faults m_text ch).1) = false ∨ ¬ m_token = 0)) (some (.int (zb ((mf_wantSign zs m_token fr en m_value m_faultPlace m_faults m_text ch).1)))) (mW G ad m_status m_top m_bottom m_taped (nI zs) ((mf_wantSign zs m_token fr en m_value m_faultPlace m_faults m_text ch).2.1) (nI ((mf_wantSign zs m_token fr en m_value m_faultPlace m_faults m_text ch).2.2.1)) (nI ((mf_wantSign zs m_token fr en m_value m_faultPlace m_faults m_text ch).2.2.2.1)) ((mf_wantSign zs m_token fr en m_value m_faultPlace m_faults m_text ch).2.2.2.2.1) m_faultKind ((mf_wantSign zs m_token fr en m_value m_faultPlace m_faults m_text ch).2.2.2.2.2.1) ((mf_wantSign zs m_token fr en m_value m_faultPlace m_faults m_text ch).2.2.2.2.2.2) m_seen m_depth m_counted m_lead m_round m_tried m_triedMany m_drawn m_ranSteps m_isTold m_marks m_at m_names m_sort m_trayMany m_trays m_tape m_text m_opened m_beside m_then m_ways m_further m_canBe m_loops m_ran m_told0) A) ([.ref (ad 0), .int ch] : List Value).toArray s 0 0 A) (F0 m 0 ls []) := ?_
  · rw [hH, hlo] at hgo; exact hgo
  clear hH hlo
  refine lv_aload_n hx hb dX7_wantSign_0 rfl (lv_at hl 0 rfl) ?_
  refine lv_iload_n hx hb dX7_wantSign_1 rfl (lv_at hl 1 rfl) ?_
  refine zr_obV ⟨hx, hb, hml, hown, hts⟩ (mt_mf_isSign l G ad m_status m_top m_bottom m_taped (nI zs) m_token (nI fr) (nI en) m_value m_faultKind m_faultPlace m_faults m_seen m_depth m_counted m_lead m_round m_tried m_triedMany m_drawn m_ranSteps m_isTold m_marks m_at m_names m_sort m_trayMany m_trays m_tape m_text m_opened m_beside m_then m_ways m_further m_canBe m_loops m_ran m_told0 ch) (cwV 1 hts (lw_V q1701 q1703 qs74 q144 q1704) rfl rfl rfl hd_X7_isSign ⟨(Nat.le_of_ble_eq_true rfl), (Nat.le_of_ble_eq_true rfl)⟩) hP hK (zE_o hE hS) 0 7 rfl rfl rfl hl.1 rfl (Nat.le_of_ble_eq_true rfl) dX7_wantSign_2 ⟨Nat.le_refl _, Nat.le_refl _⟩ ?_
  refine zr_neB (mf_isSign m_token m_value ch) (tgt := 14) hx hb dX7_wantSign_5 (by decide) (fun c_1 => ?_) (fun c_1 => ?_)
  · have hsg : ¬ m_token = 0 := by rw [isSign_tok c_1]; decide
    refine lv_aload_n hx hb dX7_wantSign_14 rfl (lv_at hl 0 rfl) ?_
    refine zr_muV (F := mf_onward zs en m_text) (ff := fun t_2 => t_2.2.2.1 ≤ zs ∧ en ≤ t_2.2.2.1 ∧ t_2.2.1 ≤ zs ∧ (t_2.1 = 0 ∨ en < t_2.2.2.1) ∧ t_2.2.1 ≤ t_2.2.2.1) (rr := fun t_2 => none) (w1 := fun t_2 => (mW G ad m_status m_top m_bottom m_taped (nI zs) t_2.1 (nI t_2.2.1) (nI t_2.2.2.1) t_2.2.2.2 m_faultKind m_faultPlace m_faults m_seen m_depth m_counted m_lead m_round m_tried m_triedMany m_drawn m_ranSteps m_isTold m_marks m_at m_names m_sort m_trayMany m_trays m_tape m_text m_opened m_beside m_then m_ways m_further m_canBe m_loops m_ran m_told0)) ⟨hx, hb, hml, hown, hts⟩ (mt_mf_onward l G ad m_status m_top m_bottom m_taped zs m_token fr en m_value m_faultKind m_faultPlace m_faults m_seen m_depth m_counted m_lead m_round m_tried m_triedMany m_drawn m_ranSteps m_isTold m_marks m_at m_names m_sort m_trayMany m_trays m_tape m_text m_opened m_beside m_then m_ways m_further m_canBe m_loops m_ran m_told0 hzs hen H.size) (cwV 0 hts (lw_V q1648 q1650 qs64 q144 q1651) rfl rfl rfl hd_X7_onward ⟨(Nat.le_of_ble_eq_true rfl), (Nat.le_of_ble_eq_true rfl)⟩) hP hD hS hA hK hE 0 7 rfl rfl rfl hl.1 rfl (Nat.le_of_ble_eq_true rfl) dX7_wantSign_15 ⟨Nat.le_refl _, Nat.le_refl _⟩ (fun t_2 ht_2 hft_2 H locs hP hD hS _ => ?_)
    refine W.eq (g2 := F0 m 18 ls []) rfl ?_
    obtain ⟨ok_m_end_t_2, hle_t_2, hfz_t_2, htk_t_2, hfe_t_2⟩ := hft_2
    refine lv_iconst (v := 1) hx hb dX7_wantSign_18 (by decide) ?_
    have e_ : mf_wantSign zs m_token fr en m_value m_faultPlace m_faults m_text ch = (true, t_2.1, t_2.2.1, t_2.2.2.1, t_2.2.2.2, m_faultPlace, m_faults) := by rw [mf_wantSign, if_pos c_1, zlet_eq ht_2]
    exact zr_mz hx hb hr hlocks hP hD hS dX7_wantSign_19 rfl (by rw [e_]; rfl) (by rw [e_]) (by rw [e_]; exact ⟨ok_m_end_t_2, (by first | omega | (dsimp only; omega)), (by first | exact Nat.le_refl _ | assumption | omega | (dsimp only; omega)), (by first | rfl | exact Or.inl rfl | exact Or.inl (by assumption) | exact Or.inr (by assumption) | assumption | exact Or.inr (by dsimp only; omega) | omega | (dsimp only; omega) | (dsimp only; assumption)), (by first | exact Or.inr hsg | exact Or.inl (by assumption))⟩)
  · refine lv_aload_n hx hb dX7_wantSign_8 rfl (lv_at hl 0 rfl) ?_
    refine lv_iconst (v := 2) hx hb dX7_wantSign_9 (by decide) ?_
    refine zr_muV (F := mf_fails m_token fr m_faultPlace m_faults 2) (ff := fun t_3 => t_3.1 = false ∧ (¬ 2 = 0 → ¬ t_3.2.2 = 0)) (rr := fun t_3 => some (.int (zb t_3.1))) (w1 := fun t_3 => (mW G ad m_status m_top m_bottom m_taped (nI zs) m_token (nI fr) (nI en) m_value m_faultKind t_3.2.1 t_3.2.2 m_seen m_depth m_counted m_lead m_round m_tried m_triedMany m_drawn m_ranSteps m_isTold m_marks m_at m_names m_sort m_trayMany m_trays m_tape m_text m_opened m_beside m_then m_ways m_further m_canBe m_loops m_ran m_told0)) ⟨hx, hb, hml, hown, hts⟩ (mt_mf_fails l G ad m_status m_top m_bottom m_taped zs m_token fr en m_value m_faultKind m_faultPlace m_faults m_seen m_depth m_counted m_lead m_round m_tried m_triedMany m_drawn m_ranSteps m_isTold m_marks m_at m_names m_sort m_trayMany m_trays m_tape m_text m_opened m_beside m_then m_ways m_further m_canBe m_loops m_ran m_told0 2 hzs hen hfr H.size) (cwV 1 hts (lw_V q1685 q1687 qs70 q144 q1688) rfl rfl rfl hd_X7_fails ⟨(Nat.le_of_ble_eq_true rfl), (Nat.le_of_ble_eq_true rfl)⟩) hP hD hS hA hK hE 0 7 rfl rfl rfl hl.1 rfl (Nat.le_of_ble_eq_true rfl) dX7_wantSign_10 ⟨Nat.le_refl _, Nat.le_refl _⟩ (fun t_3 ht_3 hft_3 H locs hP hD hS _ => ?_)
    refine W.eq (g2 := F0 m 13 ls [.int (zb t_3.1)]) rfl ?_
    obtain ⟨hff_t_3, hfn_t_3⟩ := hft_3
    have e_ : mf_wantSign zs m_token fr en m_value m_faultPlace m_faults m_text ch = (t_3.1, m_token, fr, en, m_value, t_3.2.1, t_3.2.2) := by rw [mf_wantSign, if_neg c_1, zlet_eq ht_3]
    exact zr_mz hx hb hr hlocks hP hD hS dX7_wantSign_13 zb_nar (by rw [e_]) (by rw [e_]) (by rw [e_]; exact ⟨hen, hfr, (by first | exact Nat.le_refl _ | assumption | omega | (dsimp only; omega)), (by first | rfl | exact Or.inl rfl | exact Or.inl (by assumption) | exact Or.inr (by assumption) | assumption | exact Or.inr (by dsimp only; omega) | omega | (dsimp only; omega) | (dsimp only; assumption)), (by first | exact Or.inr hsg | exact Or.inl (by assumption))⟩)
def mf_wantWord (zs : Nat) (m_token : Int32) (fr : Nat) (en : Nat) (m_value : Int32) (m_faultPlace : Int32) (m_faults : Int32) (m_text : Nat → Int32) (wk : Int32) : Bool × Int32 × Nat × Nat × Int32 × Int32 × Int32 :=
  (if (mf_inWords zs m_token fr en m_text) = wk then
    zlet (mf_onward zs en m_text) (fun t_2 =>
    (true, t_2.1, t_2.2.1, t_2.2.2.1, t_2.2.2.2, m_faultPlace, m_faults))
  else
    zlet (mf_fails m_token fr m_faultPlace m_faults 2) (fun t_3 =>
    (t_3.1, m_token, fr, en, m_value, t_3.2.1, t_3.2.2)))
theorem hd_X7_wantWord : yX7_wantWord.cls = RX7 ∧ yX7_wantWord.cls ≠ "java/lang/invoke/MethodHandle" ∧ yX7_wantWord.cls ≠ "java/lang/invoke/VarHandle" ∧ (parseMethodDescriptor yX7_wantWord.desc).map (fun d => d.parameters.length) = some 2 := by decide +kernel
set_option maxHeartbeats 4000000 in
set_option maxRecDepth 100000 in
theorem mt_mf_wantWord (l : Launch) (G : zG) (ad : Nat → Nat) (m_status : Int32) (m_top : Int64) (m_bottom : Int64) (m_taped : Int32) (zs : Nat) (m_token : Int32) (fr : Nat) (en : Nat) (m_value : Int32) (m_faultKind : Int32) (m_faultPlace : Int32) (m_faults : Int32) (m_seen : Int32) (m_depth : Int32) (m_counted : Int32) (m_lead : Int32) (m_round : Int32) (m_tried : Int32) (m_triedMany : Int32) (m_drawn : Int32) (m_ranSteps : Int32) (m_isTold : Bool) (m_marks : Int32) (m_at : Nat → Int32) (m_names : Nat → Int64) (m_sort : Nat → Int32) (m_trayMany : Nat → Int32) (m_trays : Nat → Int64) (m_tape : Nat → Int32) (m_text : Nat → Int32) (m_opened : Nat → Int32) (m_beside : Nat → Int32) (m_then : Nat → Int32) (m_ways : Nat → Int64) (m_further : Nat → Int64) (m_canBe : Nat → Int32) (m_loops : Nat → Int32) (m_ran : Nat → Int32) (m_told0 : Nat → Int32) (wk : Int32) (hzs : zs ≤ 900) (hen : en ≤ zs) (hfr : fr ≤ zs) (sz : Nat) : Met l yX7_wantWord (ws_ yX7_wantWord cX7_wantWord 3 (some .boolean)) (zR 6 0 0) (zPm G sz [.ref (ad 0), .ref (zK G 22), .int wk] (mW G ad m_status m_top m_bottom m_taped (nI zs) m_token (nI fr) (nI en) m_value m_faultKind m_faultPlace m_faults m_seen m_depth m_counted m_lead m_round m_tried m_triedMany m_drawn m_ranSteps m_isTold m_marks m_at m_names m_sort m_trayMany m_trays m_tape m_text m_opened m_beside m_then m_ways m_further m_canBe m_loops m_ran m_told0)) (zQm G ((mf_wantWord zs m_token fr en m_value m_faultPlace m_faults m_text wk).2.2.2.1 ≤ zs ∧ (mf_wantWord zs m_token fr en m_value m_faultPlace m_faults m_text wk).2.2.1 ≤ zs ∧ en ≤ ((mf_wantWord zs m_token fr en m_value m_faultPlace m_faults m_text wk).2.2.2.1) ∧ (((mf_wantWord zs m_token fr en m_value m_faultPlace m_faults m_text wk).1) = false ∨ ((mf_wantWord zs m_token fr en m_value m_faultPlace m_faults m_text wk).2.1) = 0 ∨ en < ((mf_wantWord zs m_token fr en m_value m_faultPlace m_faults m_text wk).2.2.2.1))) (some (.int (zb ((mf_wantWord zs m_token fr en m_value m_faultPlace m_faults m_text wk).1)))) (mW G ad m_status m_top m_bottom m_taped (nI zs) ((mf_wantWord zs m_token fr en m_value m_faultPlace m_faults m_text wk).2.1) (nI ((mf_wantWord zs m_token fr en m_value m_faultPlace m_faults m_text wk).2.2.1)) (nI ((mf_wantWord zs m_token fr en m_value m_faultPlace m_faults m_text wk).2.2.2.1)) ((mf_wantWord zs m_token fr en m_value m_faultPlace m_faults m_text wk).2.2.2.2.1) m_faultKind ((mf_wantWord zs m_token fr en m_value m_faultPlace m_faults m_text wk).2.2.2.2.2.1) ((mf_wantWord zs m_token fr en m_value m_faultPlace m_faults m_text wk).2.2.2.2.2.2) m_seen m_depth m_counted m_lead m_round m_tried m_triedMany m_drawn m_ranSteps m_isTold m_marks m_at m_names m_sort m_trayMany m_trays m_tape m_text m_opened m_beside m_then m_ways m_further m_canBe m_loops m_ran m_told0) (va_A (mW G ad m_status m_top m_bottom m_taped (nI zs) m_token (nI fr) (nI en) m_value m_faultKind m_faultPlace m_faults m_seen m_depth m_counted m_lead m_round m_tried m_triedMany m_drawn m_ranSteps m_isTold m_marks m_at m_names m_sort m_trayMany m_trays m_tape m_text m_opened m_beside m_then m_ways m_further m_canBe m_loops m_ran m_told0) sz)) 0 0 (va_A (mW G ad m_status m_top m_bottom m_taped (nI zs) m_token (nI fr) (nI en) m_value m_faultKind m_faultPlace m_faults m_seen m_depth m_counted m_lead m_round m_tried m_triedMany m_drawn m_ranSteps m_isTold m_marks m_at m_names m_sort m_trayMany m_trays m_tape m_text m_opened m_beside m_then m_ways m_further m_canBe m_loops m_ran m_told0) sz) := by
  refine zr_entM (by decide) (Nat.le_of_ble_eq_true rfl) ?_
  intro p e s m below meth c ⟨hx, hb, hr, hml, hown, hts, hlocks, hnm⟩ ls hl hP hK A hE hA hD hS
  have hown : s.vm.findClass RX7 = some m.cls := hown
  have hl : lv_has ls 3 [(0, .ref (ad 0)), (1, .ref (zK G 22)), (2, .int wk)] := hl
  obtain ⟨H, hH⟩ : ∃ H, H = s.heap := ⟨_, rfl⟩
  obtain ⟨locs, hlo⟩ : ∃ L : List Loc, L = [] := ⟨_, rfl⟩
  rw [← hH] at hP
  have hS : va_S A s.heap H locs := by rw [hH, hlo]; exact va_S.rf
  have hgo : W p l e (zR 6 0 0) s m ([.ref (ad 0), .ref (zK G 22), .int wk] : List Value).toArray below meth c H locs 0 0 (MQ below (zQm G ((mf_wantWord zs m_token fr en m_value m_faultPlace m_faults m_text wk).2.2.2.1 ≤ zs ∧ (mf_wantWord zs m_token fr en m_value m_faultPlace m_faults m_text wk).2.2.1 ≤ zs ∧ en ≤ ((mf_wantWord zs m_token fr en m_value m_faultPlace m_faults m_text wk).2.2.2.1) ∧ (((mf_wantWord zs m_token fr en m_value m_faultPlace m_faults m_text wk).1) = false ∨ ((mf_wantWord zs m_token fr en m_value m_faultPlace m_faults m_text wk).2.1) = 0 ∨ en < ((mf_wantWord zs m_token fr en m_value m_faultPlace m_faults m_text wk).2.2.2.1))) (some (.int (zb ((mf_wantWord zs m_token fr en m_value m_faultPlace m_faults m_text wk).1)))) (mW G ad m_status m_top m_bottom m_taped (nI zs) ((mf_wantWord zs m_token fr en m_value m_faultPlace m_faults m_text wk).2.1) (nI ((mf_wantWord zs m_token fr en m_value m_faultPlace m_faults m_text wk).2.2.1)) (nI ((mf_wantWord zs m_token fr en m_value m_faultPlace m_faults m_text wk).2.2.2.1)) ((mf_wantWord zs m_token fr en m_value m_faultPlace m_faults m_text wk).2.2.2.2.1) m_faultKind ((mf_wantWord zs m_token fr en m_value m_faultPlace m_faults m_text wk).2.2.2.2.2.1) ((mf_wantWord zs m_token fr en m_value m_faultPlace m_faults m_text wk).2.2.2.2.2.2) m_seen m_depth m_counted m_lead m_round m_tried m_triedMany m_drawn m_ranSteps m_isTold m_marks m_at m_names m_sort m_trayMany m_trays m_tape m_text m_opened m_beside m_then m_ways m_further m_canBe m_loops m_ran m_told0) A) ([.ref (ad 0), .ref (zK G 22), .int wk] : List Value).toArray s 0 0 A) (F0 m 0 ls []) := ?_
  · rw [hH, hlo] at hgo; exact hgo
  clear hH hlo
  refine lv_aload_n hx hb dX7_wantWord_0 rfl (lv_at hl 0 rfl) ?_
  refine lv_aload_n hx hb dX7_wantWord_1 rfl (lv_at hl 1 rfl) ?_
  refine zr_obV ⟨hx, hb, hml, hown, hts⟩ (mt_mf_inWords l G ad m_status m_top m_bottom m_taped zs m_token fr en m_value m_faultKind m_faultPlace m_faults m_seen m_depth m_counted m_lead m_round m_tried m_triedMany m_drawn m_ranSteps m_isTold m_marks m_at m_names m_sort m_trayMany m_trays m_tape m_text m_opened m_beside m_then m_ways m_further m_canBe m_loops m_ran m_told0 hzs hen hfr) (cwV 1 hts (lw_V q1679 q1681 qs69 q144 q1682) rfl rfl rfl hd_X7_inWords ⟨(Nat.le_of_ble_eq_true rfl), (Nat.le_of_ble_eq_true rfl)⟩) hP hK (zE_o hE hS) 0 7 rfl rfl rfl hl.1 rfl (Nat.le_of_ble_eq_true rfl) dX7_wantWord_2 ⟨Nat.le_refl _, Nat.le_refl _⟩ ?_
  refine lv_iload_n hx hb dX7_wantWord_5 rfl (lv_at hl 2 rfl) ?_
  refine lv_icmp_eq (tgt := 15) hx hb dX7_wantWord_6 (by decide) (fun c_1 => ?_) (fun c_1 => ?_)
  · refine lv_aload_n hx hb dX7_wantWord_15 rfl (lv_at hl 0 rfl) ?_
    refine zr_muV (F := mf_onward zs en m_text) (ff := fun t_2 => t_2.2.2.1 ≤ zs ∧ en ≤ t_2.2.2.1 ∧ t_2.2.1 ≤ zs ∧ (t_2.1 = 0 ∨ en < t_2.2.2.1) ∧ t_2.2.1 ≤ t_2.2.2.1) (rr := fun t_2 => none) (w1 := fun t_2 => (mW G ad m_status m_top m_bottom m_taped (nI zs) t_2.1 (nI t_2.2.1) (nI t_2.2.2.1) t_2.2.2.2 m_faultKind m_faultPlace m_faults m_seen m_depth m_counted m_lead m_round m_tried m_triedMany m_drawn m_ranSteps m_isTold m_marks m_at m_names m_sort m_trayMany m_trays m_tape m_text m_opened m_beside m_then m_ways m_further m_canBe m_loops m_ran m_told0)) ⟨hx, hb, hml, hown, hts⟩ (mt_mf_onward l G ad m_status m_top m_bottom m_taped zs m_token fr en m_value m_faultKind m_faultPlace m_faults m_seen m_depth m_counted m_lead m_round m_tried m_triedMany m_drawn m_ranSteps m_isTold m_marks m_at m_names m_sort m_trayMany m_trays m_tape m_text m_opened m_beside m_then m_ways m_further m_canBe m_loops m_ran m_told0 hzs hen H.size) (cwV 0 hts (lw_V q1648 q1650 qs64 q144 q1651) rfl rfl rfl hd_X7_onward ⟨(Nat.le_of_ble_eq_true rfl), (Nat.le_of_ble_eq_true rfl)⟩) hP hD hS hA hK hE 0 7 rfl rfl rfl hl.1 rfl (Nat.le_of_ble_eq_true rfl) dX7_wantWord_16 ⟨Nat.le_refl _, Nat.le_refl _⟩ (fun t_2 ht_2 hft_2 H locs hP hD hS _ => ?_)
    refine W.eq (g2 := F0 m 19 ls []) rfl ?_
    obtain ⟨ok_m_end_t_2, hle_t_2, hfz_t_2, htk_t_2, hfe_t_2⟩ := hft_2
    refine lv_iconst (v := 1) hx hb dX7_wantWord_19 (by decide) ?_
    have e_ : mf_wantWord zs m_token fr en m_value m_faultPlace m_faults m_text wk = (true, t_2.1, t_2.2.1, t_2.2.2.1, t_2.2.2.2, m_faultPlace, m_faults) := by rw [mf_wantWord, if_pos c_1, zlet_eq ht_2]
    exact zr_mz hx hb hr hlocks hP hD hS dX7_wantWord_20 rfl (by rw [e_]; rfl) (by rw [e_]) (by rw [e_]; exact ⟨ok_m_end_t_2, (by first | omega | (dsimp only; omega)), (by first | exact Nat.le_refl _ | assumption | omega | (dsimp only; omega)), (by first | rfl | exact Or.inl rfl | exact Or.inl (by assumption) | exact Or.inr (by assumption) | assumption | exact Or.inr (by dsimp only; omega) | omega | (dsimp only; omega) | (dsimp only; assumption))⟩)
  · refine lv_aload_n hx hb dX7_wantWord_9 rfl (lv_at hl 0 rfl) ?_
    refine lv_iconst (v := 2) hx hb dX7_wantWord_10 (by decide) ?_
    refine zr_muV (F := mf_fails m_token fr m_faultPlace m_faults 2) (ff := fun t_3 => t_3.1 = false ∧ (¬ 2 = 0 → ¬ t_3.2.2 = 0)) (rr := fun t_3 => some (.int (zb t_3.1))) (w1 := fun t_3 => (mW G ad m_status m_top m_bottom m_taped (nI zs) m_token (nI fr) (nI en) m_value m_faultKind t_3.2.1 t_3.2.2 m_seen m_depth m_counted m_lead m_round m_tried m_triedMany m_drawn m_ranSteps m_isTold m_marks m_at m_names m_sort m_trayMany m_trays m_tape m_text m_opened m_beside m_then m_ways m_further m_canBe m_loops m_ran m_told0)) ⟨hx, hb, hml, hown, hts⟩ (mt_mf_fails l G ad m_status m_top m_bottom m_taped zs m_token fr en m_value m_faultKind m_faultPlace m_faults m_seen m_depth m_counted m_lead m_round m_tried m_triedMany m_drawn m_ranSteps m_isTold m_marks m_at m_names m_sort m_trayMany m_trays m_tape m_text m_opened m_beside m_then m_ways m_further m_canBe m_loops m_ran m_told0 2 hzs hen hfr H.size) (cwV 1 hts (lw_V q1685 q1687 qs70 q144 q1688) rfl rfl rfl hd_X7_fails ⟨(Nat.le_of_ble_eq_true rfl), (Nat.le_of_ble_eq_true rfl)⟩) hP hD hS hA hK hE 0 7 rfl rfl rfl hl.1 rfl (Nat.le_of_ble_eq_true rfl) dX7_wantWord_11 ⟨Nat.le_refl _, Nat.le_refl _⟩ (fun t_3 ht_3 hft_3 H locs hP hD hS _ => ?_)
    refine W.eq (g2 := F0 m 14 ls [.int (zb t_3.1)]) rfl ?_
    obtain ⟨hff_t_3, hfn_t_3⟩ := hft_3
    have e_ : mf_wantWord zs m_token fr en m_value m_faultPlace m_faults m_text wk = (t_3.1, m_token, fr, en, m_value, t_3.2.1, t_3.2.2) := by rw [mf_wantWord, if_neg c_1, zlet_eq ht_3]
    exact zr_mz hx hb hr hlocks hP hD hS dX7_wantWord_14 zb_nar (by rw [e_]) (by rw [e_]) (by rw [e_]; exact ⟨hen, hfr, (by first | exact Nat.le_refl _ | assumption | omega | (dsimp only; omega)), (by first | rfl | exact Or.inl rfl | exact Or.inl (by assumption) | exact Or.inr (by assumption) | assumption | exact Or.inr (by dsimp only; omega) | omega | (dsimp only; omega) | (dsimp only; assumption))⟩)
def mf_isThere (zs : Nat) (m_token : Int32) (fr : Nat) (en : Nat) (m_value : Int32) (m_text : Nat → Int32) (wk : Int32) : Bool × Int32 × Nat × Nat × Int32 :=
  (if (mf_inWords zs m_token fr en m_text) = wk then
    zlet (mf_onward zs en m_text) (fun t_2 =>
    (true, t_2.1, t_2.2.1, t_2.2.2.1, t_2.2.2.2))
  else
    (false, m_token, fr, en, m_value))
theorem hd_X7_isThere : yX7_isThere.cls = RX7 ∧ yX7_isThere.cls ≠ "java/lang/invoke/MethodHandle" ∧ yX7_isThere.cls ≠ "java/lang/invoke/VarHandle" ∧ (parseMethodDescriptor yX7_isThere.desc).map (fun d => d.parameters.length) = some 1 := by decide +kernel
set_option maxHeartbeats 4000000 in
set_option maxRecDepth 100000 in
theorem mt_mf_isThere (l : Launch) (G : zG) (ad : Nat → Nat) (m_status : Int32) (m_top : Int64) (m_bottom : Int64) (m_taped : Int32) (zs : Nat) (m_token : Int32) (fr : Nat) (en : Nat) (m_value : Int32) (m_faultKind : Int32) (m_faultPlace : Int32) (m_faults : Int32) (m_seen : Int32) (m_depth : Int32) (m_counted : Int32) (m_lead : Int32) (m_round : Int32) (m_tried : Int32) (m_triedMany : Int32) (m_drawn : Int32) (m_ranSteps : Int32) (m_isTold : Bool) (m_marks : Int32) (m_at : Nat → Int32) (m_names : Nat → Int64) (m_sort : Nat → Int32) (m_trayMany : Nat → Int32) (m_trays : Nat → Int64) (m_tape : Nat → Int32) (m_text : Nat → Int32) (m_opened : Nat → Int32) (m_beside : Nat → Int32) (m_then : Nat → Int32) (m_ways : Nat → Int64) (m_further : Nat → Int64) (m_canBe : Nat → Int32) (m_loops : Nat → Int32) (m_ran : Nat → Int32) (m_told0 : Nat → Int32) (wk : Int32) (hzs : zs ≤ 900) (hen : en ≤ zs) (hfr : fr ≤ zs) (sz : Nat) : Met l yX7_isThere (ws_ yX7_isThere cX7_isThere 2 (some .boolean)) (zR 6 0 0) (zPm G sz [.ref (ad 0), .int wk] (mW G ad m_status m_top m_bottom m_taped (nI zs) m_token (nI fr) (nI en) m_value m_faultKind m_faultPlace m_faults m_seen m_depth m_counted m_lead m_round m_tried m_triedMany m_drawn m_ranSteps m_isTold m_marks m_at m_names m_sort m_trayMany m_trays m_tape m_text m_opened m_beside m_then m_ways m_further m_canBe m_loops m_ran m_told0)) (zQm G ((mf_isThere zs m_token fr en m_value m_text wk).2.2.2.1 ≤ zs ∧ (mf_isThere zs m_token fr en m_value m_text wk).2.2.1 ≤ zs ∧ en ≤ ((mf_isThere zs m_token fr en m_value m_text wk).2.2.2.1)) (some (.int (zb ((mf_isThere zs m_token fr en m_value m_text wk).1)))) (mW G ad m_status m_top m_bottom m_taped (nI zs) ((mf_isThere zs m_token fr en m_value m_text wk).2.1) (nI ((mf_isThere zs m_token fr en m_value m_text wk).2.2.1)) (nI ((mf_isThere zs m_token fr en m_value m_text wk).2.2.2.1)) ((mf_isThere zs m_token fr en m_value m_text wk).2.2.2.2) m_faultKind m_faultPlace m_faults m_seen m_depth m_counted m_lead m_round m_tried m_triedMany m_drawn m_ranSteps m_isTold m_marks m_at m_names m_sort m_trayMany m_trays m_tape m_text m_opened m_beside m_then m_ways m_further m_canBe m_loops m_ran m_told0) (va_A (mW G ad m_status m_top m_bottom m_taped (nI zs) m_token (nI fr) (nI en) m_value m_faultKind m_faultPlace m_faults m_seen m_depth m_counted m_lead m_round m_tried m_triedMany m_drawn m_ranSteps m_isTold m_marks m_at m_names m_sort m_trayMany m_trays m_tape m_text m_opened m_beside m_then m_ways m_further m_canBe m_loops m_ran m_told0) sz)) 0 0 (va_A (mW G ad m_status m_top m_bottom m_taped (nI zs) m_token (nI fr) (nI en) m_value m_faultKind m_faultPlace m_faults m_seen m_depth m_counted m_lead m_round m_tried m_triedMany m_drawn m_ranSteps m_isTold m_marks m_at m_names m_sort m_trayMany m_trays m_tape m_text m_opened m_beside m_then m_ways m_further m_canBe m_loops m_ran m_told0) sz) := by
  refine zr_entM (by decide) (Nat.le_of_ble_eq_true rfl) ?_
  intro p e s m below meth c ⟨hx, hb, hr, hml, hown, hts, hlocks, hnm⟩ ls hl hP hK A hE hA hD hS
  have hown : s.vm.findClass RX7 = some m.cls := hown
  have hl : lv_has ls 2 [(0, .ref (ad 0)), (1, .int wk)] := hl
  obtain ⟨H, hH⟩ : ∃ H, H = s.heap := ⟨_, rfl⟩
  obtain ⟨locs, hlo⟩ : ∃ L : List Loc, L = [] := ⟨_, rfl⟩
  rw [← hH] at hP
  have hS : va_S A s.heap H locs := by rw [hH, hlo]; exact va_S.rf
  have hgo : W p l e (zR 6 0 0) s m ([.ref (ad 0), .int wk] : List Value).toArray below meth c H locs 0 0 (MQ below (zQm G ((mf_isThere zs m_token fr en m_value m_text wk).2.2.2.1 ≤ zs ∧ (mf_isThere zs m_token fr en m_value m_text wk).2.2.1 ≤ zs ∧ en ≤ ((mf_isThere zs m_token fr en m_value m_text wk).2.2.2.1)) (some (.int (zb ((mf_isThere zs m_token fr en m_value m_text wk).1)))) (mW G ad m_status m_top m_bottom m_taped (nI zs) ((mf_isThere zs m_token fr en m_value m_text wk).2.1) (nI ((mf_isThere zs m_token fr en m_value m_text wk).2.2.1)) (nI ((mf_isThere zs m_token fr en m_value m_text wk).2.2.2.1)) ((mf_isThere zs m_token fr en m_value m_text wk).2.2.2.2) m_faultKind m_faultPlace m_faults m_seen m_depth m_counted m_lead m_round m_tried m_triedMany m_drawn m_ranSteps m_isTold m_marks m_at m_names m_sort m_trayMany m_trays m_tape m_text m_opened m_beside m_then m_ways m_further m_canBe m_loops m_ran m_told0) A) ([.ref (ad 0), .int wk] : List Value).toArray s 0 0 A) (F0 m 0 ls []) := ?_
  · rw [hH, hlo] at hgo; exact hgo
  clear hH hlo
  refine lv_aload_n hx hb dX7_isThere_0 rfl (lv_at hl 0 rfl) ?_
  refine va_ldcS hx hb hown (hK.2.2 22 _ rfl) dX7_isThere_1 ?_
  refine zr_obV ⟨hx, hb, hml, hown, hts⟩ (mt_mf_inWords l G ad m_status m_top m_bottom m_taped zs m_token fr en m_value m_faultKind m_faultPlace m_faults m_seen m_depth m_counted m_lead m_round m_tried m_triedMany m_drawn m_ranSteps m_isTold m_marks m_at m_names m_sort m_trayMany m_trays m_tape m_text m_opened m_beside m_then m_ways m_further m_canBe m_loops m_ran m_told0 hzs hen hfr) (cwV 1 hts (lw_V q1679 q1681 qs69 q144 q1682) rfl rfl rfl hd_X7_inWords ⟨(Nat.le_of_ble_eq_true rfl), (Nat.le_of_ble_eq_true rfl)⟩) hP hK (zE_o hE hS) 0 7 rfl rfl rfl hl.1 rfl (Nat.le_of_ble_eq_true rfl) dX7_isThere_3 ⟨Nat.le_refl _, Nat.le_refl _⟩ ?_
  refine lv_iload_n hx hb dX7_isThere_6 rfl (lv_at hl 1 rfl) ?_
  refine lv_icmp_eq (tgt := 12) hx hb dX7_isThere_7 (by decide) (fun c_1 => ?_) (fun c_1 => ?_)
  · refine lv_aload_n hx hb dX7_isThere_12 rfl (lv_at hl 0 rfl) ?_
    refine zr_muV (F := mf_onward zs en m_text) (ff := fun t_2 => t_2.2.2.1 ≤ zs ∧ en ≤ t_2.2.2.1 ∧ t_2.2.1 ≤ zs ∧ (t_2.1 = 0 ∨ en < t_2.2.2.1) ∧ t_2.2.1 ≤ t_2.2.2.1) (rr := fun t_2 => none) (w1 := fun t_2 => (mW G ad m_status m_top m_bottom m_taped (nI zs) t_2.1 (nI t_2.2.1) (nI t_2.2.2.1) t_2.2.2.2 m_faultKind m_faultPlace m_faults m_seen m_depth m_counted m_lead m_round m_tried m_triedMany m_drawn m_ranSteps m_isTold m_marks m_at m_names m_sort m_trayMany m_trays m_tape m_text m_opened m_beside m_then m_ways m_further m_canBe m_loops m_ran m_told0)) ⟨hx, hb, hml, hown, hts⟩ (mt_mf_onward l G ad m_status m_top m_bottom m_taped zs m_token fr en m_value m_faultKind m_faultPlace m_faults m_seen m_depth m_counted m_lead m_round m_tried m_triedMany m_drawn m_ranSteps m_isTold m_marks m_at m_names m_sort m_trayMany m_trays m_tape m_text m_opened m_beside m_then m_ways m_further m_canBe m_loops m_ran m_told0 hzs hen H.size) (cwV 0 hts (lw_V q1648 q1650 qs64 q144 q1651) rfl rfl rfl hd_X7_onward ⟨(Nat.le_of_ble_eq_true rfl), (Nat.le_of_ble_eq_true rfl)⟩) hP hD hS hA hK hE 0 7 rfl rfl rfl hl.1 rfl (Nat.le_of_ble_eq_true rfl) dX7_isThere_13 ⟨Nat.le_refl _, Nat.le_refl _⟩ (fun t_2 ht_2 hft_2 H locs hP hD hS _ => ?_)
    refine W.eq (g2 := F0 m 16 ls []) rfl ?_
    obtain ⟨ok_m_end_t_2, hle_t_2, hfz_t_2, htk_t_2, hfe_t_2⟩ := hft_2
    refine lv_iconst (v := 1) hx hb dX7_isThere_16 (by decide) ?_
    have e_ : mf_isThere zs m_token fr en m_value m_text wk = (true, t_2.1, t_2.2.1, t_2.2.2.1, t_2.2.2.2) := by rw [mf_isThere, if_pos c_1, zlet_eq ht_2]
    exact zr_mz hx hb hr hlocks hP hD hS dX7_isThere_17 rfl (by rw [e_]; rfl) (by rw [e_]) (by rw [e_]; exact ⟨ok_m_end_t_2, (by first | omega | (dsimp only; omega)), (by first | exact Nat.le_refl _ | assumption | omega | (dsimp only; omega))⟩)
  · refine lv_iconst (v := 0) hx hb dX7_isThere_10 (by decide) ?_
    have e_ : mf_isThere zs m_token fr en m_value m_text wk = (false, m_token, fr, en, m_value) := by rw [mf_isThere, if_neg c_1]
    exact zr_mz hx hb hr hlocks hP hD hS dX7_isThere_11 rfl (by rw [e_]; rfl) (by rw [e_]) (by rw [e_]; exact ⟨hen, hfr, (by first | exact Nat.le_refl _ | assumption | omega | (dsimp only; omega))⟩)
def mf_nameHere_B7 (zs : Nat) (fr : Nat) (en : Nat) (m_text : Nat → Int32) (s_1 : Nat × Int64) : (Nat × Int64) ⊕ (Nat × Int64) :=
  (if en ≤ s_1.1 then
    .inr (s_1.1, s_1.2)
  else
    .inl (s_1.1 + 1, (s_1.2 <<< ((8 : Int32).toInt64 &&& 63)) ||| ((mf_byteAt zs m_text s_1.1).toInt64)))
def mf_nameHere_L7 (zs : Nat) (fr : Nat) (en : Nat) (m_text : Nat → Int32) (s_1 : Nat × Int64) : Nat × Int64 := zw (mf_nameHere_B7 zs fr en m_text) (s_1) ((en - s_1.1) + 1) s_1
def mf_nameHere (zs : Nat) (fr : Nat) (en : Nat) (m_text : Nat → Int32) : Int64 :=
  zlet (mf_nameHere_L7 zs fr en m_text (fr, 0)) (fun t_1 =>
  t_1.2)
theorem hd_X7_nameHere : yX7_nameHere.cls = RX7 ∧ yX7_nameHere.cls ≠ "java/lang/invoke/MethodHandle" ∧ yX7_nameHere.cls ≠ "java/lang/invoke/VarHandle" ∧ (parseMethodDescriptor yX7_nameHere.desc).map (fun d => d.parameters.length) = some 0 := by decide +kernel
set_option maxHeartbeats 4000000 in
set_option maxRecDepth 100000 in
theorem mt_mf_nameHere (l : Launch) (G : zG) (ad : Nat → Nat) (m_status : Int32) (m_top : Int64) (m_bottom : Int64) (m_taped : Int32) (zs : Nat) (m_token : Int32) (fr : Nat) (en : Nat) (m_value : Int32) (m_faultKind : Int32) (m_faultPlace : Int32) (m_faults : Int32) (m_seen : Int32) (m_depth : Int32) (m_counted : Int32) (m_lead : Int32) (m_round : Int32) (m_tried : Int32) (m_triedMany : Int32) (m_drawn : Int32) (m_ranSteps : Int32) (m_isTold : Bool) (m_marks : Int32) (m_at : Nat → Int32) (m_names : Nat → Int64) (m_sort : Nat → Int32) (m_trayMany : Nat → Int32) (m_trays : Nat → Int64) (m_tape : Nat → Int32) (m_text : Nat → Int32) (m_opened : Nat → Int32) (m_beside : Nat → Int32) (m_then : Nat → Int32) (m_ways : Nat → Int64) (m_further : Nat → Int64) (m_canBe : Nat → Int32) (m_loops : Nat → Int32) (m_ran : Nat → Int32) (m_told0 : Nat → Int32) (hzs : zs ≤ 900) (hen : en ≤ zs) (hfr : fr ≤ zs) : Met l yX7_nameHere (ws_ yX7_nameHere cX7_nameHere 4 (some .long)) (zR 2 0 0) (zPo G [.ref (ad 0)] (mW G ad m_status m_top m_bottom m_taped (nI zs) m_token (nI fr) (nI en) m_value m_faultKind m_faultPlace m_faults m_seen m_depth m_counted m_lead m_round m_tried m_triedMany m_drawn m_ranSteps m_isTold m_marks m_at m_names m_sort m_trayMany m_trays m_tape m_text m_opened m_beside m_then m_ways m_further m_canBe m_loops m_ran m_told0)) (k2_QcV (.long (mf_nameHere zs fr en m_text))) 0 0 (fun _ => False) := by
  refine zr_entO (by decide) (Nat.le_of_ble_eq_true rfl) ?_
  intro p e s m below meth c ⟨hx, hb, hr, hml, hown, hts, hlocks, hnm⟩ ls hl hP hK hE
  have hown : s.vm.findClass RX7 = some m.cls := hown
  have hl : lv_has ls 4 [(0, .ref (ad 0))] := hl
  refine lv_lconst (v := 0) hx hb dX7_nameHere_0 rfl ?_
  refine lv_lstore_n (lv' := [(1, .long 0), (0, .ref (ad 0))]) hx hb dX7_nameHere_1 rfl hl (by decide) rfl (fun ls hl => ?_)
  refine lv_aload_n hx hb dX7_nameHere_2 rfl (lv_at hl 1 rfl) ?_
  refine va_get (D := G.1) (ci := 7) (v := .int (nI fr)) (C := RX7) (T := TX7) (N := 39) hx hb hts in_X7 hown hK.1 hP 0 rfl rfl 13 (Nat.le_of_ble_eq_true rfl) (hts _ q1480) (fun _ h => h) rfl dX7_nameHere_3 ?_
  refine lv_istore_n (lv' := [(3, .int (nI fr)), (1, .long 0), (0, .ref (ad 0))]) hx hb dX7_nameHere_6 rfl hl (by decide) rfl (fun ls hl => ?_)
  have hx_1 : ∀ t_1 : Nat × Int64, mf_nameHere_L7 zs fr en m_text (fr, 0) = t_1 → ∀ ls : Array Slot, lv_has ls 4 [(1, .long t_1.2)] → W p l e (zR 2 0 0) s m ([.ref (ad 0)] : List Value).toArray below meth c s.heap [] 0 0 (MQ below (k2_QcV (.long (mf_nameHere zs fr en m_text))) ([.ref (ad 0)] : List Value).toArray s 0 0 (fun _ => False)) (F0 m 33 ls []) := by
    intro t_1 ht_1 ls hl
    refine lv_lload_n hx hb dX7_nameHere_33 rfl (lv_at hl 0 rfl) ?_
    have e_ : mf_nameHere zs fr en m_text = t_1.2 := by rw [mf_nameHere, zlet_eq ht_1]
    exact zr_ol hx hb hr hlocks dX7_nameHere_34 (congrArg Value.long e_)
  have hlp_1 : ∀ (n : Nat) (s_1 : Nat × Int64), en - s_1.1 < n → zw (mf_nameHere_B7 zs fr en m_text) (fr, 0) n s_1 = mf_nameHere_L7 zs fr en m_text (fr, 0) → s_1.1 ≤ 900 → ∀ ls : Array Slot, lv_has ls 4 [(3, .int (nI s_1.1)), (1, .long s_1.2), (0, .ref (ad 0))] → W p l e (zR 2 0 0) s m ([.ref (ad 0)] : List Value).toArray below meth c s.heap [] 0 0 (MQ below (k2_QcV (.long (mf_nameHere zs fr en m_text))) ([.ref (ad 0)] : List Value).toArray s 0 0 (fun _ => False)) (F0 m 7 ls []) := by
    intro n
    induction n with
    | zero => exact fun _ h => absurd h (Nat.not_lt_zero _)
    | succ n ih_1 =>
      intro s_1 hmu_1 hR_1 hi3 ls hl
      refine lv_iload_n hx hb dX7_nameHere_7 rfl (lv_at hl 0 rfl) ?_
      refine lv_aload_n hx hb dX7_nameHere_8 rfl (lv_at hl 2 rfl) ?_
      refine va_get (D := G.1) (ci := 7) (v := .int (nI en)) (C := RX7) (T := TX7) (N := 39) hx hb hts in_X7 hown hK.1 hP 0 rfl rfl 14 (Nat.le_of_ble_eq_true rfl) (hts _ q1481) (fun _ h => h) rfl dX7_nameHere_9 ?_
      refine zr_ge s_1.1 en (by omega) (by omega) (tgt := 33) hx hb dX7_nameHere_12 (by decide) (fun c_2 => ?_) (fun c_2 => ?_)
      · exact hx_1 (s_1.1, s_1.2) (hR_1.symm.trans (zw_r (by rw [mf_nameHere_B7, if_pos c_2]))) ls (lv_sub hl [1] rfl)
      · refine lv_lload_n hx hb dX7_nameHere_15 rfl (lv_at hl 1 rfl) ?_
        refine lv_bipush (v := 8) hx hb dX7_nameHere_16 (by decide) ?_
        refine lv_lshl hx hb dX7_nameHere_18 rfl ?_
        refine lv_aload_n hx hb dX7_nameHere_19 rfl (lv_at hl 2 rfl) ?_
        refine lv_iload_n hx hb dX7_nameHere_20 rfl (lv_at hl 0 rfl) ?_
        refine zr_obV ⟨hx, hb, hml, hown, hts⟩ (mt_mf_byteAt l G ad m_status m_top m_bottom m_taped zs m_token (nI fr) (nI en) m_value m_faultKind m_faultPlace m_faults m_seen m_depth m_counted m_lead m_round m_tried m_triedMany m_drawn m_ranSteps m_isTold m_marks m_at m_names m_sort m_trayMany m_trays m_tape m_text m_opened m_beside m_then m_ways m_further m_canBe m_loops m_ran m_told0 s_1.1 hzs (by omega)) (cwV 1 hts (lw_V q1652 q1654 qs65 q144 q1655) rfl rfl rfl hd_X7_byteAt ⟨(Nat.le_of_ble_eq_true rfl), (Nat.le_of_ble_eq_true rfl)⟩) hP hK hE 0 7 rfl rfl rfl hl.1 rfl (Nat.le_of_ble_eq_true rfl) dX7_nameHere_21 ⟨Nat.le_refl _, Nat.le_refl _⟩ ?_
        refine lv_i2l hx hb dX7_nameHere_24 rfl ?_
        refine lv_lor hx hb dX7_nameHere_25 ?_
        refine lv_lstore_n (lv' := [(1, .long ((s_1.2 <<< ((8 : Int32).toInt64 &&& 63)) ||| ((mf_byteAt zs m_text s_1.1).toInt64))), (3, .int (nI s_1.1)), (0, .ref (ad 0))]) hx hb dX7_nameHere_26 rfl hl (by decide) rfl (fun ls hl => ?_)
        refine lv_iinc (v := nI (s_1.1 + 1)) (lv' := [(3, .int (nI (s_1.1 + 1))), (1, .long ((s_1.2 <<< ((8 : Int32).toInt64 &&& 63)) ||| ((mf_byteAt zs m_text s_1.1).toInt64))), (0, .ref (ad 0))]) hx hb dX7_nameHere_27 hl (k := 1) rfl (nI_add s_1.1 1) (by decide) rfl (fun ls hl => ?_)
        refine lv_goto (tgt := 7) hx hb dX7_nameHere_30 (by decide) ?_
        exact ih_1 (s_1.1 + 1, (s_1.2 <<< ((8 : Int32).toInt64 &&& 63)) ||| ((mf_byteAt zs m_text s_1.1).toInt64)) (by omega) ((zw_l (by rw [mf_nameHere_B7, if_neg c_2])).symm.trans hR_1) (by omega) ls (lv_sub hl [0, 1, 2] rfl)
  exact hlp_1 _ (fr, 0) (Nat.lt_succ_self _) (by rw [mf_nameHere_L7]) (by omega) ls (lv_sub hl [0, 1, 2] rfl)
def mf_findHere_B2 (zs : Nat) (fr : Nat) (en : Nat) (m_names : Nat → Int64) (m_text : Nat → Int32) (base : Nat) (many : Nat) (s_1 : Nat) : (Nat) ⊕ ((Nat) ⊕ (Int32)) :=
  (if many ≤ s_1 then
    .inr (.inl s_1)
  else
    (if (m_names (base + s_1)) = (mf_nameHere zs fr en m_text) then
      .inr (.inr (nI s_1))
    else
      .inl (s_1 + 1)))
def mf_findHere_L2 (zs : Nat) (fr : Nat) (en : Nat) (m_names : Nat → Int64) (m_text : Nat → Int32) (base : Nat) (many : Nat) (s_1 : Nat) : (Nat) ⊕ (Int32) := zw (mf_findHere_B2 zs fr en m_names m_text base many) (.inl s_1) ((many - s_1) + 1) s_1
def mf_findHere (zs : Nat) (fr : Nat) (en : Nat) (m_names : Nat → Int64) (m_text : Nat → Int32) (base : Nat) (many : Nat) : Int32 :=
  zcase (mf_findHere_L2 zs fr en m_names m_text base many 0) (fun t_1 =>
  (-1)) (fun r => r)
theorem hd_X7_findHere : yX7_findHere.cls = RX7 ∧ yX7_findHere.cls ≠ "java/lang/invoke/MethodHandle" ∧ yX7_findHere.cls ≠ "java/lang/invoke/VarHandle" ∧ (parseMethodDescriptor yX7_findHere.desc).map (fun d => d.parameters.length) = some 2 := by decide +kernel
set_option maxHeartbeats 4000000 in
set_option maxRecDepth 100000 in
theorem mt_mf_findHere (l : Launch) (G : zG) (ad : Nat → Nat) (m_status : Int32) (m_top : Int64) (m_bottom : Int64) (m_taped : Int32) (zs : Nat) (m_token : Int32) (fr : Nat) (en : Nat) (m_value : Int32) (m_faultKind : Int32) (m_faultPlace : Int32) (m_faults : Int32) (m_seen : Int32) (m_depth : Int32) (m_counted : Int32) (m_lead : Int32) (m_round : Int32) (m_tried : Int32) (m_triedMany : Int32) (m_drawn : Int32) (m_ranSteps : Int32) (m_isTold : Bool) (m_marks : Int32) (m_at : Nat → Int32) (m_names : Nat → Int64) (m_sort : Nat → Int32) (m_trayMany : Nat → Int32) (m_trays : Nat → Int64) (m_tape : Nat → Int32) (m_text : Nat → Int32) (m_opened : Nat → Int32) (m_beside : Nat → Int32) (m_then : Nat → Int32) (m_ways : Nat → Int64) (m_further : Nat → Int64) (m_canBe : Nat → Int32) (m_loops : Nat → Int32) (m_ran : Nat → Int32) (m_told0 : Nat → Int32) (base : Nat) (many : Nat) (hzs : zs ≤ 900) (hen : en ≤ zs) (hfr : fr ≤ zs) (hbm : base + many ≤ 60) : Met l yX7_findHere (ws_ yX7_findHere cX7_findHere 4 (some .int)) (zR 3 0 0) (zPo G [.ref (ad 0), .int (nI base), .int (nI many)] (mW G ad m_status m_top m_bottom m_taped (nI zs) m_token (nI fr) (nI en) m_value m_faultKind m_faultPlace m_faults m_seen m_depth m_counted m_lead m_round m_tried m_triedMany m_drawn m_ranSteps m_isTold m_marks m_at m_names m_sort m_trayMany m_trays m_tape m_text m_opened m_beside m_then m_ways m_further m_canBe m_loops m_ran m_told0)) (k2_QcV (.int (mf_findHere zs fr en m_names m_text base many))) 0 0 (fun _ => False) := by
  refine zr_entO (by decide) (Nat.le_of_ble_eq_true rfl) ?_
  intro p e s m below meth c ⟨hx, hb, hr, hml, hown, hts, hlocks, hnm⟩ ls hl hP hK hE
  have hown : s.vm.findClass RX7 = some m.cls := hown
  have hl : lv_has ls 4 [(0, .ref (ad 0)), (1, .int (nI base)), (2, .int (nI many))] := hl
  refine lv_iconst (v := 0) hx hb dX7_findHere_0 (by decide) ?_
  refine lv_istore_n (lv' := [(3, .int 0), (0, .ref (ad 0)), (1, .int (nI base)), (2, .int (nI many))]) hx hb dX7_findHere_1 rfl hl (by decide) rfl (fun ls hl => ?_)
  have hx_1 : ∀ t_1 : Nat, mf_findHere_L2 zs fr en m_names m_text base many 0 = .inl t_1 → ∀ ls : Array Slot, lv_has ls 4 [] → W p l e (zR 3 0 0) s m ([.ref (ad 0), .int (nI base), .int (nI many)] : List Value).toArray below meth c s.heap [] 0 0 (MQ below (k2_QcV (.int (mf_findHere zs fr en m_names m_text base many))) ([.ref (ad 0), .int (nI base), .int (nI many)] : List Value).toArray s 0 0 (fun _ => False)) (F0 m 31 ls []) := by
    intro t_1 ht_1 ls hl
    refine lv_iconst (v := (-1)) hx hb dX7_findHere_31 (by decide) ?_
    have e_ : mf_findHere zs fr en m_names m_text base many = (-1) := by rw [mf_findHere, zcase_l ht_1]
    exact zr_oi hx hb hr hlocks dX7_findHere_32 (congrArg Value.int e_)
  have hlp_1 : ∀ (n : Nat) (s_1 : Nat), many - s_1 < n → zw (mf_findHere_B2 zs fr en m_names m_text base many) (.inl 0) n s_1 = mf_findHere_L2 zs fr en m_names m_text base many 0 → s_1 ≤ many → ∀ ls : Array Slot, lv_has ls 4 [(3, .int (nI s_1)), (0, .ref (ad 0)), (1, .int (nI base)), (2, .int (nI many))] → W p l e (zR 3 0 0) s m ([.ref (ad 0), .int (nI base), .int (nI many)] : List Value).toArray below meth c s.heap [] 0 0 (MQ below (k2_QcV (.int (mf_findHere zs fr en m_names m_text base many))) ([.ref (ad 0), .int (nI base), .int (nI many)] : List Value).toArray s 0 0 (fun _ => False)) (F0 m 2 ls []) := by
    intro n
    induction n with
    | zero => exact fun _ h => absurd h (Nat.not_lt_zero _)
    | succ n ih_1 =>
      intro s_1 hmu_1 hR_1 hi3 ls hl
      refine lv_iload_n hx hb dX7_findHere_2 rfl (lv_at hl 0 rfl) ?_
      refine lv_iload_n hx hb dX7_findHere_3 rfl (lv_at hl 3 rfl) ?_
      refine zr_ge s_1 many (by omega) (by omega) (tgt := 31) hx hb dX7_findHere_4 (by decide) (fun c_2 => ?_) (fun c_2 => ?_)
      · exact hx_1 s_1 (hR_1.symm.trans (zw_r (by rw [mf_findHere_B2, if_pos c_2]))) ls (lv_sub hl [] rfl)
      · refine lv_aload_n hx hb dX7_findHere_7 rfl (lv_at hl 1 rfl) ?_
        refine va_get (D := G.1) (ci := 7) (v := .ref (ad 2)) (C := RX7) (T := TX7) (N := 39) hx hb hts in_X7 hown hK.1 hP 0 rfl rfl 1 (Nat.le_of_ble_eq_true rfl) (hts _ q1468) (fun _ h => h) rfl dX7_findHere_8 ?_
        refine lv_iload_n hx hb dX7_findHere_11 rfl (lv_at hl 2 rfl) ?_
        refine lv_iload_n hx hb dX7_findHere_12 rfl (lv_at hl 0 rfl) ?_
        refine zr_iaddN base s_1 hx hb dX7_findHere_13 ?_
        refine zr_lald (base + s_1) (v := m_names (base + s_1)) hx hb hK hP 2 rfl rfl (Nat.le_of_ble_eq_true rfl) rfl (by omega) rfl dX7_findHere_14 ?_
        refine lv_aload_n hx hb dX7_findHere_15 rfl (lv_at hl 1 rfl) ?_
        refine zr_obV ⟨hx, hb, hml, hown, hts⟩ (mt_mf_nameHere l G ad m_status m_top m_bottom m_taped zs m_token fr en m_value m_faultKind m_faultPlace m_faults m_seen m_depth m_counted m_lead m_round m_tried m_triedMany m_drawn m_ranSteps m_isTold m_marks m_at m_names m_sort m_trayMany m_trays m_tape m_text m_opened m_beside m_then m_ways m_further m_canBe m_loops m_ran m_told0 hzs hen hfr) (cwV 0 hts (lw_V q1732 q1734 qs81 q144 q1735) rfl rfl rfl hd_X7_nameHere ⟨(Nat.le_of_ble_eq_true rfl), (Nat.le_of_ble_eq_true rfl)⟩) hP hK hE 0 7 rfl rfl rfl hl.1 rfl (Nat.le_of_ble_eq_true rfl) dX7_findHere_16 ⟨Nat.le_refl _, Nat.le_refl _⟩ ?_
        refine W.lcmp hx hb dX7_findHere_19 ?_
        refine zr_lne (tgt := 25) hx hb dX7_findHere_20 (by decide) (fun c_3 => ?_) (fun c_3 => ?_)
        · refine lv_iinc (v := nI (s_1 + 1)) (lv' := [(3, .int (nI (s_1 + 1))), (0, .ref (ad 0)), (1, .int (nI base)), (2, .int (nI many))]) hx hb dX7_findHere_25 hl (k := 0) rfl (nI_add s_1 1) (by decide) rfl (fun ls hl => ?_)
          refine lv_goto (tgt := 2) hx hb dX7_findHere_28 (by decide) ?_
          exact ih_1 (s_1 + 1) (by omega) ((zw_l (by rw [mf_findHere_B2, if_neg c_2, if_neg c_3])).symm.trans hR_1) (by omega) ls (lv_sub hl [0, 1, 2, 3] rfl)
        · refine lv_iload_n hx hb dX7_findHere_23 rfl (lv_at hl 0 rfl) ?_
          have hr_1 : mf_findHere_L2 zs fr en m_names m_text base many 0 = .inr (nI s_1) := hR_1.symm.trans (zw_r (by rw [mf_findHere_B2, if_neg c_2, if_pos c_3]))
          have e_ : mf_findHere zs fr en m_names m_text base many = nI s_1 := by rw [mf_findHere, zcase_r hr_1]
          exact zr_oi hx hb hr hlocks dX7_findHere_24 (congrArg Value.int e_)
  exact hlp_1 _ 0 (Nat.lt_succ_self _) (by rw [mf_findHere_L2]) (by omega) ls (lv_sub hl [0, 1, 2, 3] rfl)
def mf_taken (m_faults : Int32) (gv : Int32) : Int32 × Int32 × Int32 :=
  (if m_faults ≤ 0 then
    (gv, 0, m_faults)
  else
    ((-1), 9, m_faults))
theorem hd_X7_taken : yX7_taken.cls = RX7 ∧ yX7_taken.cls ≠ "java/lang/invoke/MethodHandle" ∧ yX7_taken.cls ≠ "java/lang/invoke/VarHandle" ∧ (parseMethodDescriptor yX7_taken.desc).map (fun d => d.parameters.length) = some 1 := by decide +kernel
set_option maxHeartbeats 4000000 in
set_option maxRecDepth 100000 in
theorem mt_mf_taken (l : Launch) (G : zG) (ad : Nat → Nat) (m_status : Int32) (m_top : Int64) (m_bottom : Int64) (m_taped : Int32) (m_size : Int32) (m_token : Int32) (m_from : Int32) (m_end : Int32) (m_value : Int32) (m_faultKind : Int32) (m_faultPlace : Int32) (m_faults : Int32) (m_seen : Int32) (m_depth : Int32) (m_counted : Int32) (m_lead : Int32) (m_round : Int32) (m_tried : Int32) (m_triedMany : Int32) (m_drawn : Int32) (m_ranSteps : Int32) (m_isTold : Bool) (m_marks : Int32) (m_at : Nat → Int32) (m_names : Nat → Int64) (m_sort : Nat → Int32) (m_trayMany : Nat → Int32) (m_trays : Nat → Int64) (m_tape : Nat → Int32) (m_text : Nat → Int32) (m_opened : Nat → Int32) (m_beside : Nat → Int32) (m_then : Nat → Int32) (m_ways : Nat → Int64) (m_further : Nat → Int64) (m_canBe : Nat → Int32) (m_loops : Nat → Int32) (m_ran : Nat → Int32) (m_told0 : Nat → Int32) (gv : Int32) (sz : Nat) : Met l yX7_taken (ws_ yX7_taken cX7_taken 2 (some .int)) (zR 2 0 0) (zPm G sz [.ref (ad 0), .int gv] (mW G ad m_status m_top m_bottom m_taped m_size m_token m_from m_end m_value m_faultKind m_faultPlace m_faults m_seen m_depth m_counted m_lead m_round m_tried m_triedMany m_drawn m_ranSteps m_isTold m_marks m_at m_names m_sort m_trayMany m_trays m_tape m_text m_opened m_beside m_then m_ways m_further m_canBe m_loops m_ran m_told0)) (zQm G (True) (some (.int ((mf_taken m_faults gv).1))) (mW G ad ((mf_taken m_faults gv).2.1) m_top m_bottom m_taped m_size m_token m_from m_end m_value ((mf_taken m_faults gv).2.2) m_faultPlace m_faults m_seen m_depth m_counted m_lead m_round m_tried m_triedMany m_drawn m_ranSteps m_isTold m_marks m_at m_names m_sort m_trayMany m_trays m_tape m_text m_opened m_beside m_then m_ways m_further m_canBe m_loops m_ran m_told0) (va_A (mW G ad m_status m_top m_bottom m_taped m_size m_token m_from m_end m_value m_faultKind m_faultPlace m_faults m_seen m_depth m_counted m_lead m_round m_tried m_triedMany m_drawn m_ranSteps m_isTold m_marks m_at m_names m_sort m_trayMany m_trays m_tape m_text m_opened m_beside m_then m_ways m_further m_canBe m_loops m_ran m_told0) sz)) 0 0 (va_A (mW G ad m_status m_top m_bottom m_taped m_size m_token m_from m_end m_value m_faultKind m_faultPlace m_faults m_seen m_depth m_counted m_lead m_round m_tried m_triedMany m_drawn m_ranSteps m_isTold m_marks m_at m_names m_sort m_trayMany m_trays m_tape m_text m_opened m_beside m_then m_ways m_further m_canBe m_loops m_ran m_told0) sz) := by
  refine zr_entM (by decide) (Nat.le_of_ble_eq_true rfl) ?_
  intro p e s m below meth c ⟨hx, hb, hr, hml, hown, hts, hlocks, hnm⟩ ls hl hP hK A hE hA hD hS
  have hown : s.vm.findClass RX7 = some m.cls := hown
  have hl : lv_has ls 2 [(0, .ref (ad 0)), (1, .int gv)] := hl
  obtain ⟨H, hH⟩ : ∃ H, H = s.heap := ⟨_, rfl⟩
  obtain ⟨locs, hlo⟩ : ∃ L : List Loc, L = [] := ⟨_, rfl⟩
  rw [← hH] at hP
  have hS : va_S A s.heap H locs := by rw [hH, hlo]; exact va_S.rf
  have hgo : W p l e (zR 2 0 0) s m ([.ref (ad 0), .int gv] : List Value).toArray below meth c H locs 0 0 (MQ below (zQm G (True) (some (.int ((mf_taken m_faults gv).1))) (mW G ad ((mf_taken m_faults gv).2.1) m_top m_bottom m_taped m_size m_token m_from m_end m_value ((mf_taken m_faults gv).2.2) m_faultPlace m_faults m_seen m_depth m_counted m_lead m_round m_tried m_triedMany m_drawn m_ranSteps m_isTold m_marks m_at m_names m_sort m_trayMany m_trays m_tape m_text m_opened m_beside m_then m_ways m_further m_canBe m_loops m_ran m_told0) A) ([.ref (ad 0), .int gv] : List Value).toArray s 0 0 A) (F0 m 0 ls []) := ?_
  · rw [hH, hlo] at hgo; exact hgo
  clear hH hlo
  refine lv_aload_n hx hb dX7_taken_0 rfl (lv_at hl 0 rfl) ?_
  refine lv_aload_n hx hb dX7_taken_1 rfl (lv_at hl 0 rfl) ?_
  refine va_get (D := G.1) (ci := 7) (v := .int m_faults) (C := RX7) (T := TX7) (N := 39) hx hb hts in_X7 hown hK.1 hP 0 rfl rfl 18 (Nat.le_of_ble_eq_true rfl) (hts _ q1485) (fun _ h => h) rfl dX7_taken_2 ?_
  refine va_put (D := G.1) (ci := 7) (v := .int m_faults) (ty := .int) (C := RX7) (T := TX7) (N := 39) hx hb hts in_X7 tyX7 tyX7_ok nmX7 hown hK.1 hP hD hS 0 rfl rfl 16 (Nat.le_of_ble_eq_true rfl) (hts _ q1483) (fun _ h => h) rfl (tyX7_ok 16 (Nat.le_of_ble_eq_true rfl)) rfl rfl (Nat.le_of_ble_eq_true rfl) dX7_taken_5 (fun H locs hP hD hS => ?_)
  have hP : va_P G.1 zcl (mW G ad m_status m_top m_bottom m_taped m_size m_token m_from m_end m_value m_faults m_faultPlace m_faults m_seen m_depth m_counted m_lead m_round m_tried m_triedMany m_drawn m_ranSteps m_isTold m_marks m_at m_names m_sort m_trayMany m_trays m_tape m_text m_opened m_beside m_then m_ways m_further m_canBe m_loops m_ran m_told0) H := hP
  have hD : va_D A (mW G ad m_status m_top m_bottom m_taped m_size m_token m_from m_end m_value m_faults m_faultPlace m_faults m_seen m_depth m_counted m_lead m_round m_tried m_triedMany m_drawn m_ranSteps m_isTold m_marks m_at m_names m_sort m_trayMany m_trays m_tape m_text m_opened m_beside m_then m_ways m_further m_canBe m_loops m_ran m_told0) := hD
  refine lv_aload_n hx hb dX7_taken_8 rfl (lv_at hl 0 rfl) ?_
  refine va_get (D := G.1) (ci := 7) (v := .int m_faults) (C := RX7) (T := TX7) (N := 39) hx hb hts in_X7 hown hK.1 hP 0 rfl rfl 18 (Nat.le_of_ble_eq_true rfl) (hts _ q1485) (fun _ h => h) rfl dX7_taken_9 ?_
  refine lv_if_le (tgt := 24) hx hb dX7_taken_12 (by decide) (fun c_1 => ?_) (fun c_1 => ?_)
  · refine lv_aload_n hx hb dX7_taken_24 rfl (lv_at hl 0 rfl) ?_
    refine lv_iload_n hx hb dX7_taken_25 rfl (lv_at hl 1 rfl) ?_
    refine zr_muV (F := ()) (ff := fun _ => True) (rr := fun _ => some (.int gv)) (w1 := fun _ => (mW G ad 0 m_top m_bottom m_taped m_size m_token m_from m_end m_value m_faults m_faultPlace m_faults m_seen m_depth m_counted m_lead m_round m_tried m_triedMany m_drawn m_ranSteps m_isTold m_marks m_at m_names m_sort m_trayMany m_trays m_tape m_text m_opened m_beside m_then m_ways m_further m_canBe m_loops m_ran m_told0)) ⟨hx, hb, hml, hown, hts⟩ (mt_mf_gives l G ad m_status m_top m_bottom m_taped m_size m_token m_from m_end m_value m_faults m_faultPlace m_faults m_seen m_depth m_counted m_lead m_round m_tried m_triedMany m_drawn m_ranSteps m_isTold m_marks m_at m_names m_sort m_trayMany m_trays m_tape m_text m_opened m_beside m_then m_ways m_further m_canBe m_loops m_ran m_told0 gv H.size) (cwV 1 hts (lw_V q1751 q1753 qs85 q144 q1754) rfl rfl rfl hd_X7_gives ⟨(Nat.le_of_ble_eq_true rfl), (Nat.le_of_ble_eq_true rfl)⟩) hP hD hS hA hK hE 0 7 rfl rfl rfl hl.1 rfl (Nat.le_of_ble_eq_true rfl) dX7_taken_26 ⟨Nat.le_refl _, Nat.le_refl _⟩ (fun _ _ _ H locs hP hD hS _ => ?_)
    refine W.eq (g2 := F0 m 29 ls [.int gv]) rfl ?_
    have e_ : mf_taken m_faults gv = (gv, 0, m_faults) := by rw [mf_taken, if_pos c_1]
    exact zr_mi hx hb hr hlocks hP hD hS dX7_taken_29 (by rw [e_])  (by rw [e_]) trivial
  · refine lv_aload_n hx hb dX7_taken_15 rfl (lv_at hl 0 rfl) ?_
    refine lv_bipush (v := 9) hx hb dX7_taken_16 (by decide) ?_
    refine zr_muV (F := ()) (ff := fun _ => True) (rr := fun _ => some (.int (-1))) (w1 := fun _ => (mW G ad 9 m_top m_bottom m_taped m_size m_token m_from m_end m_value m_faults m_faultPlace m_faults m_seen m_depth m_counted m_lead m_round m_tried m_triedMany m_drawn m_ranSteps m_isTold m_marks m_at m_names m_sort m_trayMany m_trays m_tape m_text m_opened m_beside m_then m_ways m_further m_canBe m_loops m_ran m_told0)) ⟨hx, hb, hml, hown, hts⟩ (mt_mf_refuse l G ad m_status m_top m_bottom m_taped m_size m_token m_from m_end m_value m_faults m_faultPlace m_faults m_seen m_depth m_counted m_lead m_round m_tried m_triedMany m_drawn m_ranSteps m_isTold m_marks m_at m_names m_sort m_trayMany m_trays m_tape m_text m_opened m_beside m_then m_ways m_further m_canBe m_loops m_ran m_told0 9 H.size) (cwV 1 hts (lw_V q1666 q1668 qs66 q144 q1669) rfl rfl rfl hd_X7_refuse ⟨(Nat.le_of_ble_eq_true rfl), (Nat.le_of_ble_eq_true rfl)⟩) hP hD hS hA hK hE 0 7 rfl rfl rfl hl.1 rfl (Nat.le_of_ble_eq_true rfl) dX7_taken_18 ⟨Nat.le_refl _, Nat.le_refl _⟩ (fun _ _ _ H locs hP hD hS _ => ?_)
    refine W.eq (g2 := F0 m 21 ls [.int (-1)]) rfl ?_
    refine lv_goto (tgt := 29) hx hb dX7_taken_21 (by decide) ?_
    have e_ : mf_taken m_faults gv = ((-1), 9, m_faults) := by rw [mf_taken, if_neg c_1]
    exact zr_mi hx hb hr hlocks hP hD hS dX7_taken_29 (by rw [e_])  (by rw [e_]) trivial
