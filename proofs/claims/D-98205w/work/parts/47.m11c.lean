def mf_draw (m_drawn : Int32) (db : Int32) : Int32 × Int32 :=
  (((((m_drawn * 2879) + 11083) - ((m_drawn * 2879) + 11083) / 65536 * 65536) / 8) - ((((m_drawn * 2879) + 11083) - ((m_drawn * 2879) + 11083) / 65536 * 65536) / 8) / db * db, ((m_drawn * 2879) + 11083) - ((m_drawn * 2879) + 11083) / 65536 * 65536)
theorem hd_X7_draw : yX7_draw.cls = RX7 ∧ yX7_draw.cls ≠ "java/lang/invoke/MethodHandle" ∧ yX7_draw.cls ≠ "java/lang/invoke/VarHandle" ∧ (parseMethodDescriptor yX7_draw.desc).map (fun d => d.parameters.length) = some 1 := by decide +kernel
set_option maxHeartbeats 4000000 in
set_option maxRecDepth 100000 in
theorem mt_mf_draw (l : Launch) (G : zG) (ad : Nat → Nat) (m_status : Int32) (m_top : Int64) (m_bottom : Int64) (m_taped : Int32) (m_size : Int32) (m_token : Int32) (m_from : Int32) (m_end : Int32) (m_value : Int32) (m_faultKind : Int32) (m_faultPlace : Int32) (m_faults : Int32) (m_seen : Int32) (m_depth : Int32) (m_counted : Int32) (m_lead : Int32) (m_round : Int32) (m_tried : Int32) (m_triedMany : Int32) (m_drawn : Int32) (m_ranSteps : Int32) (m_isTold : Bool) (m_marks : Int32) (m_at : Nat → Int32) (m_names : Nat → Int64) (m_sort : Nat → Int32) (m_trayMany : Nat → Int32) (m_trays : Nat → Int64) (m_tape : Nat → Int32) (m_text : Nat → Int32) (m_opened : Nat → Int32) (m_beside : Nat → Int32) (m_then : Nat → Int32) (m_ways : Nat → Int64) (m_further : Nat → Int64) (m_canBe : Nat → Int32) (m_loops : Nat → Int32) (m_ran : Nat → Int32) (m_told0 : Nat → Int32) (db : Int32) (hdb : ¬ db = 0) (sz : Nat) : Met l yX7_draw (ws_ yX7_draw cX7_draw 2 (some .int)) (zR 1 0 0) (zPm G sz [.ref (ad 0), .int db] (mW G ad m_status m_top m_bottom m_taped m_size m_token m_from m_end m_value m_faultKind m_faultPlace m_faults m_seen m_depth m_counted m_lead m_round m_tried m_triedMany m_drawn m_ranSteps m_isTold m_marks m_at m_names m_sort m_trayMany m_trays m_tape m_text m_opened m_beside m_then m_ways m_further m_canBe m_loops m_ran m_told0)) (zQm G (True) (some (.int ((mf_draw m_drawn db).1))) (mW G ad m_status m_top m_bottom m_taped m_size m_token m_from m_end m_value m_faultKind m_faultPlace m_faults m_seen m_depth m_counted m_lead m_round m_tried m_triedMany ((mf_draw m_drawn db).2) m_ranSteps m_isTold m_marks m_at m_names m_sort m_trayMany m_trays m_tape m_text m_opened m_beside m_then m_ways m_further m_canBe m_loops m_ran m_told0) (va_A (mW G ad m_status m_top m_bottom m_taped m_size m_token m_from m_end m_value m_faultKind m_faultPlace m_faults m_seen m_depth m_counted m_lead m_round m_tried m_triedMany m_drawn m_ranSteps m_isTold m_marks m_at m_names m_sort m_trayMany m_trays m_tape m_text m_opened m_beside m_then m_ways m_further m_canBe m_loops m_ran m_told0) sz)) 0 0 (va_A (mW G ad m_status m_top m_bottom m_taped m_size m_token m_from m_end m_value m_faultKind m_faultPlace m_faults m_seen m_depth m_counted m_lead m_round m_tried m_triedMany m_drawn m_ranSteps m_isTold m_marks m_at m_names m_sort m_trayMany m_trays m_tape m_text m_opened m_beside m_then m_ways m_further m_canBe m_loops m_ran m_told0) sz) := by
  refine zr_entM (by decide) (Nat.le_of_ble_eq_true rfl) ?_
  intro p e s m below meth c ⟨hx, hb, hr, hml, hown, hts, hlocks, hnm⟩ ls hl hP hK A hE hA hD hS
  have hown : s.vm.findClass RX7 = some m.cls := hown
  have hl : lv_has ls 2 [(0, .ref (ad 0)), (1, .int db)] := hl
  obtain ⟨H, hH⟩ : ∃ H, H = s.heap := ⟨_, rfl⟩
  obtain ⟨locs, hlo⟩ : ∃ L : List Loc, L = [] := ⟨_, rfl⟩
  rw [← hH] at hP
  have hS : va_S A s.heap H locs := by rw [hH, hlo]; exact va_S.rf
  have hgo : W p l e (zR 1 0 0) s m ([.ref (ad 0), .int db] : List Value).toArray below meth c H locs 0 0 (MQ below (zQm G (True) (some (.int ((mf_draw m_drawn db).1))) (mW G ad m_status m_top m_bottom m_taped m_size m_token m_from m_end m_value m_faultKind m_faultPlace m_faults m_seen m_depth m_counted m_lead m_round m_tried m_triedMany ((mf_draw m_drawn db).2) m_ranSteps m_isTold m_marks m_at m_names m_sort m_trayMany m_trays m_tape m_text m_opened m_beside m_then m_ways m_further m_canBe m_loops m_ran m_told0) A) ([.ref (ad 0), .int db] : List Value).toArray s 0 0 A) (F0 m 0 ls []) := ?_
  · rw [hH, hlo] at hgo; exact hgo
  clear hH hlo
  refine lv_aload_n hx hb dX7_draw_0 rfl (lv_at hl 0 rfl) ?_
  refine lv_aload_n hx hb dX7_draw_1 rfl (lv_at hl 0 rfl) ?_
  refine va_get (D := G.1) (ci := 7) (v := .int m_drawn) (C := RX7) (T := TX7) (N := 39) hx hb hts in_X7 hown hK.1 hP 0 rfl rfl 32 (Nat.le_of_ble_eq_true rfl) (hts _ q1499) (fun _ h => h) rfl dX7_draw_2 ?_
  refine lv_sipush (v := 2879) hx hb dX7_draw_5 (by decide) ?_
  refine lv_imul hx hb dX7_draw_8 ?_
  refine lv_sipush (v := 11083) hx hb dX7_draw_9 (by decide) ?_
  refine lv_iadd hx hb dX7_draw_12 ?_
  refine lv_ldcw (v := 65536) hx hb hown (hts _ q2122) dX7_draw_13 ?_
  refine lv_irem hx hb dX7_draw_16 (by decide) ?_
  refine va_put (D := G.1) (ci := 7) (v := .int (((m_drawn * 2879) + 11083) - ((m_drawn * 2879) + 11083) / 65536 * 65536)) (ty := .int) (C := RX7) (T := TX7) (N := 39) hx hb hts in_X7 tyX7 tyX7_ok nmX7 hown hK.1 hP hD hS 0 rfl rfl 32 (Nat.le_of_ble_eq_true rfl) (hts _ q1499) (fun _ h => h) rfl (tyX7_ok 32 (Nat.le_of_ble_eq_true rfl)) rfl rfl (Nat.le_of_ble_eq_true rfl) dX7_draw_17 (fun H locs hP hD hS => ?_)
  have hP : va_P G.1 zcl (mW G ad m_status m_top m_bottom m_taped m_size m_token m_from m_end m_value m_faultKind m_faultPlace m_faults m_seen m_depth m_counted m_lead m_round m_tried m_triedMany (((m_drawn * 2879) + 11083) - ((m_drawn * 2879) + 11083) / 65536 * 65536) m_ranSteps m_isTold m_marks m_at m_names m_sort m_trayMany m_trays m_tape m_text m_opened m_beside m_then m_ways m_further m_canBe m_loops m_ran m_told0) H := hP
  have hD : va_D A (mW G ad m_status m_top m_bottom m_taped m_size m_token m_from m_end m_value m_faultKind m_faultPlace m_faults m_seen m_depth m_counted m_lead m_round m_tried m_triedMany (((m_drawn * 2879) + 11083) - ((m_drawn * 2879) + 11083) / 65536 * 65536) m_ranSteps m_isTold m_marks m_at m_names m_sort m_trayMany m_trays m_tape m_text m_opened m_beside m_then m_ways m_further m_canBe m_loops m_ran m_told0) := hD
  refine lv_aload_n hx hb dX7_draw_20 rfl (lv_at hl 0 rfl) ?_
  refine va_get (D := G.1) (ci := 7) (v := .int (((m_drawn * 2879) + 11083) - ((m_drawn * 2879) + 11083) / 65536 * 65536)) (C := RX7) (T := TX7) (N := 39) hx hb hts in_X7 hown hK.1 hP 0 rfl rfl 32 (Nat.le_of_ble_eq_true rfl) (hts _ q1499) (fun _ h => h) rfl dX7_draw_21 ?_
  refine lv_bipush (v := 8) hx hb dX7_draw_24 (by decide) ?_
  refine lv_idiv hx hb dX7_draw_26 (by decide) ?_
  refine lv_iload_n hx hb dX7_draw_27 rfl (lv_at hl 1 rfl) ?_
  refine lv_irem hx hb dX7_draw_28 hdb ?_
  have e_ : mf_draw m_drawn db = (((((m_drawn * 2879) + 11083) - ((m_drawn * 2879) + 11083) / 65536 * 65536) / 8) - ((((m_drawn * 2879) + 11083) - ((m_drawn * 2879) + 11083) / 65536 * 65536) / 8) / db * db, ((m_drawn * 2879) + 11083) - ((m_drawn * 2879) + 11083) / 65536 * 65536) := by rw [mf_draw]
  exact zr_mi hx hb hr hlocks hP hD hS dX7_draw_29 (by rw [e_])  (by rw [e_]) trivial
def mf_storms_B18 (m_at : Nat → Int32) (Wd : Nat) (R : Nat) (stn : Int32) (k_1 : Nat) (s_1 : Int32 × (Nat → Int32) × (Nat → Int32)) : Int32 × (Nat → Int32) × (Nat → Int32) :=
  (if ((((m_at 3) &&& ((m_at 4) ^^^ (-1))) >>> ((nI k_1) &&& 31)) &&& 1) = 0 then
    (s_1.1, s_1.2.1, s_1.2.2)
  else
    zlet (mf_draw s_1.1 16) (fun t_3 =>
    (if t_3.1 < stn then
      (t_3.2, upd s_1.2.1 3 ((s_1.2.1 3) &&& (((1 : Int32) <<< ((nI k_1) &&& 31)) ^^^ (-1))), upd s_1.2.2 2 ((s_1.2.2 2) + 1))
    else
      (t_3.2, s_1.2.1, s_1.2.2))))
def mf_storms_L18 (m_at : Nat → Int32) (Wd : Nat) (R : Nat) (stn : Int32) (s_1 : Int32 × (Nat → Int32) × (Nat → Int32)) : Int32 × (Nat → Int32) × (Nat → Int32) := zf (mf_storms_B18 m_at Wd R stn) s_1 (Wd * R)
def mf_storms (m_drawn : Int32) (m_at : Nat → Int32) (m_ran : Nat → Int32) (Wd : Nat) (R : Nat) (stn : Int32) : Bool × Int32 × (Nat → Int32) × (Nat → Int32) :=
  zlet (mf_storms_L18 m_at Wd R stn (m_drawn, m_at, m_ran)) (fun s_1 =>
  (true, s_1.1, s_1.2.1, s_1.2.2))
theorem hd_X7_storms : yX7_storms.cls = RX7 ∧ yX7_storms.cls ≠ "java/lang/invoke/MethodHandle" ∧ yX7_storms.cls ≠ "java/lang/invoke/VarHandle" ∧ (parseMethodDescriptor yX7_storms.desc).map (fun d => d.parameters.length) = some 1 := by decide +kernel
set_option maxHeartbeats 4000000 in
set_option maxRecDepth 100000 in
theorem mt_mf_storms (l : Launch) (G : zG) (ad : Nat → Nat) (m_status : Int32) (m_top : Int64) (m_bottom : Int64) (m_taped : Int32) (m_size : Int32) (m_token : Int32) (m_from : Int32) (m_end : Int32) (m_value : Int32) (m_faultKind : Int32) (m_faultPlace : Int32) (m_faults : Int32) (m_seen : Int32) (m_depth : Int32) (m_counted : Int32) (m_lead : Int32) (m_round : Int32) (m_tried : Int32) (m_triedMany : Int32) (m_drawn : Int32) (m_ranSteps : Int32) (m_isTold : Bool) (m_marks : Int32) (m_at : Nat → Int32) (m_names : Nat → Int64) (m_sort : Nat → Int32) (m_trayMany : Nat → Int32) (m_trays : Nat → Int64) (m_tape : Nat → Int32) (m_text : Nat → Int32) (m_opened : Nat → Int32) (m_beside : Nat → Int32) (m_then : Nat → Int32) (m_ways : Nat → Int64) (m_further : Nat → Int64) (m_canBe : Nat → Int32) (m_loops : Nat → Int32) (m_ran : Nat → Int32) (m_told0 : Nat → Int32) (Wd : Nat) (R : Nat) (nr : Nat) (nc : Nat) (nn : Nat) (stn : Int32) (hY : mYR m_at Wd R nr nc nn) (sz : Nat) : Met l yX7_storms (ws_ yX7_storms cX7_storms 4 (some .boolean)) (zR 2 0 0) (zPm G sz [.ref (ad 0), .int stn] (mW G ad m_status m_top m_bottom m_taped m_size m_token m_from m_end m_value m_faultKind m_faultPlace m_faults m_seen m_depth m_counted m_lead m_round m_tried m_triedMany m_drawn m_ranSteps m_isTold m_marks m_at m_names m_sort m_trayMany m_trays m_tape m_text m_opened m_beside m_then m_ways m_further m_canBe m_loops m_ran m_told0)) (zQm G (mYR ((mf_storms m_drawn m_at m_ran Wd R stn).2.2.1) Wd R nr nc nn) (some (.int (zb ((mf_storms m_drawn m_at m_ran Wd R stn).1)))) (mW G ad m_status m_top m_bottom m_taped m_size m_token m_from m_end m_value m_faultKind m_faultPlace m_faults m_seen m_depth m_counted m_lead m_round m_tried m_triedMany ((mf_storms m_drawn m_at m_ran Wd R stn).2.1) m_ranSteps m_isTold m_marks ((mf_storms m_drawn m_at m_ran Wd R stn).2.2.1) m_names m_sort m_trayMany m_trays m_tape m_text m_opened m_beside m_then m_ways m_further m_canBe m_loops ((mf_storms m_drawn m_at m_ran Wd R stn).2.2.2) m_told0) (va_A (mW G ad m_status m_top m_bottom m_taped m_size m_token m_from m_end m_value m_faultKind m_faultPlace m_faults m_seen m_depth m_counted m_lead m_round m_tried m_triedMany m_drawn m_ranSteps m_isTold m_marks m_at m_names m_sort m_trayMany m_trays m_tape m_text m_opened m_beside m_then m_ways m_further m_canBe m_loops m_ran m_told0) sz)) 0 0 (va_A (mW G ad m_status m_top m_bottom m_taped m_size m_token m_from m_end m_value m_faultKind m_faultPlace m_faults m_seen m_depth m_counted m_lead m_round m_tried m_triedMany m_drawn m_ranSteps m_isTold m_marks m_at m_names m_sort m_trayMany m_trays m_tape m_text m_opened m_beside m_then m_ways m_further m_canBe m_loops m_ran m_told0) sz) := by
  refine zr_entM (by decide) (Nat.le_of_ble_eq_true rfl) ?_
  intro p e s m below meth c ⟨hx, hb, hr, hml, hown, hts, hlocks, hnm⟩ ls hl hP hK A hE hA hD hS
  have hown : s.vm.findClass RX7 = some m.cls := hown
  have hl : lv_has ls 4 [(0, .ref (ad 0)), (1, .int stn)] := hl
  obtain ⟨H, hH⟩ : ∃ H, H = s.heap := ⟨_, rfl⟩
  obtain ⟨locs, hlo⟩ : ∃ L : List Loc, L = [] := ⟨_, rfl⟩
  rw [← hH] at hP
  have hS : va_S A s.heap H locs := by rw [hH, hlo]; exact va_S.rf
  have hgo : W p l e (zR 2 0 0) s m ([.ref (ad 0), .int stn] : List Value).toArray below meth c H locs 0 0 (MQ below (zQm G (mYR ((mf_storms m_drawn m_at m_ran Wd R stn).2.2.1) Wd R nr nc nn) (some (.int (zb ((mf_storms m_drawn m_at m_ran Wd R stn).1)))) (mW G ad m_status m_top m_bottom m_taped m_size m_token m_from m_end m_value m_faultKind m_faultPlace m_faults m_seen m_depth m_counted m_lead m_round m_tried m_triedMany ((mf_storms m_drawn m_at m_ran Wd R stn).2.1) m_ranSteps m_isTold m_marks ((mf_storms m_drawn m_at m_ran Wd R stn).2.2.1) m_names m_sort m_trayMany m_trays m_tape m_text m_opened m_beside m_then m_ways m_further m_canBe m_loops ((mf_storms m_drawn m_at m_ran Wd R stn).2.2.2) m_told0) A) ([.ref (ad 0), .int stn] : List Value).toArray s 0 0 A) (F0 m 0 ls []) := ?_
  · rw [hH, hlo] at hgo; exact hgo
  clear hH hlo
  have hG := hY.1
  have hnn6 := hY.2.2.1
  have hWR := mOK_WR hG
  have hW0 := mOK_W0 hG
  have hW5 := mOK_W5 hG
  have hR0 := mOK_R0 hG
  have hR6 := mOK_R6 hG
  have hn4 := mOK_n4 hG
  have hc6 := mOK_c6 hG
  refine lv_aload_n hx hb dX7_storms_0 rfl (lv_at hl 0 rfl) ?_
  refine va_get (D := G.1) (ci := 7) (v := .ref (ad 1)) (C := RX7) (T := TX7) (N := 39) hx hb hts in_X7 hown hK.1 hP 0 rfl rfl 0 (Nat.le_of_ble_eq_true rfl) (hts _ q1467) (fun _ h => h) rfl dX7_storms_1 ?_
  refine lv_iconst (v := 3) hx hb dX7_storms_4 (by decide) ?_
  refine zr_iald 3 (v := m_at 3) hx hb hK hP 1 rfl rfl (Nat.le_of_ble_eq_true rfl) rfl (by decide) rfl dX7_storms_5 ?_
  refine lv_aload_n hx hb dX7_storms_6 rfl (lv_at hl 0 rfl) ?_
  refine va_get (D := G.1) (ci := 7) (v := .ref (ad 1)) (C := RX7) (T := TX7) (N := 39) hx hb hts in_X7 hown hK.1 hP 0 rfl rfl 0 (Nat.le_of_ble_eq_true rfl) (hts _ q1467) (fun _ h => h) rfl dX7_storms_7 ?_
  refine lv_iconst (v := 4) hx hb dX7_storms_10 (by decide) ?_
  refine zr_iald 4 (v := m_at 4) hx hb hK hP 1 rfl rfl (Nat.le_of_ble_eq_true rfl) rfl (by decide) rfl dX7_storms_11 ?_
  refine lv_iconst (v := (-1)) hx hb dX7_storms_12 (by decide) ?_
  refine lv_ixor hx hb dX7_storms_13 ?_
  refine lv_iand hx hb dX7_storms_14 ?_
  refine lv_istore_n (lv' := [(2, .int ((m_at 3) &&& ((m_at 4) ^^^ (-1)))), (0, .ref (ad 0)), (1, .int stn)]) hx hb dX7_storms_15 rfl hl (by decide) rfl (fun ls hl => ?_)
  refine lv_iconst (v := 0) hx hb dX7_storms_16 (by decide) ?_
  refine lv_istore_n (lv' := [(3, .int 0), (2, .int ((m_at 3) &&& ((m_at 4) ^^^ (-1)))), (0, .ref (ad 0)), (1, .int stn)]) hx hb dX7_storms_17 rfl hl (by decide) rfl (fun ls hl => ?_)
  have hlp_1 : ∀ (n k_1 : Nat) (s_1 : Int32 × (Nat → Int32) × (Nat → Int32)), k_1 ≤ Wd * R → Wd * R < k_1 + n → zf (mf_storms_B18 m_at Wd R stn) (m_drawn, m_at, m_ran) k_1 = s_1 → mYR s_1.2.1 Wd R nr nc nn → ∀ (H : Heap) (locs : List Loc), va_P G.1 zcl (mW G ad m_status m_top m_bottom m_taped m_size m_token m_from m_end m_value m_faultKind m_faultPlace m_faults m_seen m_depth m_counted m_lead m_round m_tried m_triedMany s_1.1 m_ranSteps m_isTold m_marks s_1.2.1 m_names m_sort m_trayMany m_trays m_tape m_text m_opened m_beside m_then m_ways m_further m_canBe m_loops s_1.2.2 m_told0) H → va_D A (mW G ad m_status m_top m_bottom m_taped m_size m_token m_from m_end m_value m_faultKind m_faultPlace m_faults m_seen m_depth m_counted m_lead m_round m_tried m_triedMany s_1.1 m_ranSteps m_isTold m_marks s_1.2.1 m_names m_sort m_trayMany m_trays m_tape m_text m_opened m_beside m_then m_ways m_further m_canBe m_loops s_1.2.2 m_told0) → va_S A s.heap H locs → ∀ ls : Array Slot, lv_has ls 4 [(3, .int (nI k_1)), (2, .int ((m_at 3) &&& ((m_at 4) ^^^ (-1)))), (0, .ref (ad 0)), (1, .int stn)] → W p l e (zR 2 0 0) s m ([.ref (ad 0), .int stn] : List Value).toArray below meth c H locs 0 0 (MQ below (zQm G (mYR ((mf_storms m_drawn m_at m_ran Wd R stn).2.2.1) Wd R nr nc nn) (some (.int (zb ((mf_storms m_drawn m_at m_ran Wd R stn).1)))) (mW G ad m_status m_top m_bottom m_taped m_size m_token m_from m_end m_value m_faultKind m_faultPlace m_faults m_seen m_depth m_counted m_lead m_round m_tried m_triedMany ((mf_storms m_drawn m_at m_ran Wd R stn).2.1) m_ranSteps m_isTold m_marks ((mf_storms m_drawn m_at m_ran Wd R stn).2.2.1) m_names m_sort m_trayMany m_trays m_tape m_text m_opened m_beside m_then m_ways m_further m_canBe m_loops ((mf_storms m_drawn m_at m_ran Wd R stn).2.2.2) m_told0) A) ([.ref (ad 0), .int stn] : List Value).toArray s 0 0 A) (F0 m 18 ls []) := by
    intro n
    induction n with
    | zero => intro k_1 s_1 h1 h2; exact absurd h2 (by omega)
    | succ n ih_1 =>
      intro k_1 s_1 hk_1 hn_1 hst_1 ok_1_m_at H locs hP hD hS ls hl
      refine lv_iload_n hx hb dX7_storms_18 rfl (lv_at hl 0 rfl) ?_
      refine lv_aload_n hx hb dX7_storms_19 rfl (lv_at hl 2 rfl) ?_
      refine zr_obV ⟨hx, hb, hml, hown, hts⟩ (mt_mf_places l G ad m_status m_top m_bottom m_taped m_size m_token m_from m_end m_value m_faultKind m_faultPlace m_faults m_seen m_depth m_counted m_lead m_round m_tried m_triedMany s_1.1 m_ranSteps m_isTold m_marks s_1.2.1 m_names m_sort m_trayMany m_trays m_tape m_text m_opened m_beside m_then m_ways m_further m_canBe m_loops s_1.2.2 m_told0 Wd R nr nc (mYR_G ok_1_m_at)) (cwV 0 hts (lw_V q1815 q1817 qs97 q144 q1818) rfl rfl rfl hd_X7_places ⟨(Nat.le_of_ble_eq_true rfl), (Nat.le_of_ble_eq_true rfl)⟩) hP hK (zE_o hE hS) 0 7 rfl rfl rfl hl.1 rfl (Nat.le_of_ble_eq_true rfl) dX7_storms_20 ⟨Nat.le_refl _, Nat.le_refl _⟩ ?_
      refine zr_ge k_1 (Wd * R) (by omega) (by omega) (tgt := 77) hx hb dX7_storms_23 (by decide) (fun c_1 => ?_) (fun c_1 => ?_)
      · have ek_1 : k_1 = Wd * R := Nat.le_antisymm hk_1 c_1
        have hs_1 : mf_storms_L18 m_at Wd R stn (m_drawn, m_at, m_ran) = s_1 := by rw [ek_1] at hst_1; exact hst_1
        have hl := lv_sub hl (l' := _) [1, 2, 3] rfl
        refine lv_iconst (v := 1) hx hb dX7_storms_77 (by decide) ?_
        have e_ : mf_storms m_drawn m_at m_ran Wd R stn = (true, s_1.1, s_1.2.1, s_1.2.2) := by rw [mf_storms, zlet_eq hs_1]
        exact zr_mz hx hb hr hlocks hP hD hS dX7_storms_78 rfl (by rw [e_]; rfl) (by rw [e_]) (by rw [e_]; exact ok_1_m_at)
      · have hlt_1 : k_1 < Wd * R := Nat.lt_of_not_le c_1
        refine lv_iload_n hx hb dX7_storms_26 rfl (lv_at hl 1 rfl) ?_
        refine lv_iload_n hx hb dX7_storms_27 rfl (lv_at hl 0 rfl) ?_
        refine lv_ishr hx hb dX7_storms_28 ?_
        refine lv_iconst (v := 1) hx hb dX7_storms_29 (by decide) ?_
        refine lv_iand hx hb dX7_storms_30 ?_
        refine lv_if_eq (tgt := 71) hx hb dX7_storms_31 (by decide) (fun c_2 => ?_) (fun c_2 => ?_)
        · refine lv_iinc (v := nI (k_1 + 1)) (lv' := [(3, .int (nI (k_1 + 1))), (2, .int ((m_at 3) &&& ((m_at 4) ^^^ (-1)))), (0, .ref (ad 0)), (1, .int stn)]) hx hb dX7_storms_71 hl (k := 0) rfl (nI_add k_1 1) (by decide) rfl (fun ls hl => ?_)
          refine lv_goto (tgt := 18) hx hb dX7_storms_74 (by decide) ?_
          exact ih_1 (k_1 + 1) (s_1.1, s_1.2.1, s_1.2.2) hlt_1 (by omega) (zf_s hst_1 (by rw [mf_storms_B18, if_pos c_2])) ok_1_m_at H locs hP hD hS ls (lv_sub hl [0, 1, 2, 3] rfl)
        · refine lv_aload_n hx hb dX7_storms_34 rfl (lv_at hl 2 rfl) ?_
          refine lv_bipush (v := 16) hx hb dX7_storms_35 (by decide) ?_
          refine zr_muV (F := mf_draw s_1.1 16) (ff := fun t_3 => True) (rr := fun t_3 => some (.int t_3.1)) (w1 := fun t_3 => (mW G ad m_status m_top m_bottom m_taped m_size m_token m_from m_end m_value m_faultKind m_faultPlace m_faults m_seen m_depth m_counted m_lead m_round m_tried m_triedMany t_3.2 m_ranSteps m_isTold m_marks s_1.2.1 m_names m_sort m_trayMany m_trays m_tape m_text m_opened m_beside m_then m_ways m_further m_canBe m_loops s_1.2.2 m_told0)) ⟨hx, hb, hml, hown, hts⟩ (mt_mf_draw l G ad m_status m_top m_bottom m_taped m_size m_token m_from m_end m_value m_faultKind m_faultPlace m_faults m_seen m_depth m_counted m_lead m_round m_tried m_triedMany s_1.1 m_ranSteps m_isTold m_marks s_1.2.1 m_names m_sort m_trayMany m_trays m_tape m_text m_opened m_beside m_then m_ways m_further m_canBe m_loops s_1.2.2 m_told0 16 (by decide) H.size) (cwV 1 hts (lw_V q2118 q2120 qs129 q144 q2121) rfl rfl rfl hd_X7_draw ⟨(Nat.le_of_ble_eq_true rfl), (Nat.le_of_ble_eq_true rfl)⟩) hP hD hS hA hK hE 0 7 rfl rfl rfl hl.1 rfl (Nat.le_of_ble_eq_true rfl) dX7_storms_37 ⟨Nat.le_refl _, Nat.le_refl _⟩ (fun t_3 ht_3 hft_3 H locs hP hD hS _ => ?_)
          refine W.eq (g2 := F0 m 40 ls [.int t_3.1]) rfl ?_
          refine lv_iload_n hx hb dX7_storms_40 rfl (lv_at hl 3 rfl) ?_
          refine lv_icmp_lt (tgt := 47) hx hb dX7_storms_41 (by decide) (fun c_4 => ?_) (fun c_4 => ?_)
          · refine lv_aload_n hx hb dX7_storms_47 rfl (lv_at hl 2 rfl) ?_
            refine va_get (D := G.1) (ci := 7) (v := .ref (ad 1)) (C := RX7) (T := TX7) (N := 39) hx hb hts in_X7 hown hK.1 hP 0 rfl rfl 0 (Nat.le_of_ble_eq_true rfl) (hts _ q1467) (fun _ h => h) rfl dX7_storms_48 ?_
            refine lv_iconst (v := 3) hx hb dX7_storms_51 (by decide) ?_
            refine lv_dup2_11 hx hb dX7_storms_52 rfl rfl ?_
            refine zr_iald 3 (v := s_1.2.1 3) hx hb hK hP 1 rfl rfl (Nat.le_of_ble_eq_true rfl) rfl (by decide) rfl dX7_storms_53 ?_
            refine lv_iconst (v := 1) hx hb dX7_storms_54 (by decide) ?_
            refine lv_iload_n hx hb dX7_storms_55 rfl (lv_at hl 0 rfl) ?_
            refine lv_ishl hx hb dX7_storms_56 ?_
            refine lv_iconst (v := (-1)) hx hb dX7_storms_57 (by decide) ?_
            refine lv_ixor hx hb dX7_storms_58 ?_
            refine lv_iand hx hb dX7_storms_59 ?_
            refine zr_iast 3 (ws' := (mW G ad m_status m_top m_bottom m_taped m_size m_token m_from m_end m_value m_faultKind m_faultPlace m_faults m_seen m_depth m_counted m_lead m_round m_tried m_triedMany t_3.2 m_ranSteps m_isTold m_marks (upd s_1.2.1 3 ((s_1.2.1 3) &&& (((1 : Int32) <<< ((nI k_1) &&& 31)) ^^^ (-1)))) m_names m_sort m_trayMany m_trays m_tape m_text m_opened m_beside m_then m_ways m_further m_canBe m_loops s_1.2.2 m_told0)) hx hb hK hP hD hS 1 rfl rfl (Nat.le_of_ble_eq_true rfl) rfl (by decide) rfl dX7_storms_60 (fun H locs hP hD hS => ?_)
            refine lv_aload_n hx hb dX7_storms_61 rfl (lv_at hl 2 rfl) ?_
            refine va_get (D := G.1) (ci := 7) (v := .ref (ad 15)) (C := RX7) (T := TX7) (N := 39) hx hb hts in_X7 hown hK.1 hP 0 rfl rfl 35 (Nat.le_of_ble_eq_true rfl) (hts _ q1502) (fun _ h => h) rfl dX7_storms_62 ?_
            refine lv_iconst (v := 2) hx hb dX7_storms_65 (by decide) ?_
            refine lv_dup2_11 hx hb dX7_storms_66 rfl rfl ?_
            refine zr_iald 2 (v := s_1.2.2 2) hx hb hK hP 15 rfl rfl (Nat.le_of_ble_eq_true rfl) rfl (by decide) rfl dX7_storms_67 ?_
            refine lv_iconst (v := 1) hx hb dX7_storms_68 (by decide) ?_
            refine lv_iadd hx hb dX7_storms_69 ?_
            refine zr_iast 2 (ws' := (mW G ad m_status m_top m_bottom m_taped m_size m_token m_from m_end m_value m_faultKind m_faultPlace m_faults m_seen m_depth m_counted m_lead m_round m_tried m_triedMany t_3.2 m_ranSteps m_isTold m_marks (upd s_1.2.1 3 ((s_1.2.1 3) &&& (((1 : Int32) <<< ((nI k_1) &&& 31)) ^^^ (-1)))) m_names m_sort m_trayMany m_trays m_tape m_text m_opened m_beside m_then m_ways m_further m_canBe m_loops (upd s_1.2.2 2 ((s_1.2.2 2) + 1)) m_told0)) hx hb hK hP hD hS 15 rfl rfl (Nat.le_of_ble_eq_true rfl) rfl (by decide) rfl dX7_storms_70 (fun H locs hP hD hS => ?_)
            refine lv_iinc (v := nI (k_1 + 1)) (lv' := [(3, .int (nI (k_1 + 1))), (2, .int ((m_at 3) &&& ((m_at 4) ^^^ (-1)))), (0, .ref (ad 0)), (1, .int stn)]) hx hb dX7_storms_71 hl (k := 0) rfl (nI_add k_1 1) (by decide) rfl (fun ls hl => ?_)
            refine lv_goto (tgt := 18) hx hb dX7_storms_74 (by decide) ?_
            exact ih_1 (k_1 + 1) (t_3.2, upd s_1.2.1 3 ((s_1.2.1 3) &&& (((1 : Int32) <<< ((nI k_1) &&& 31)) ^^^ (-1))), upd s_1.2.2 2 ((s_1.2.2 2) + 1)) hlt_1 (by omega) (zf_s hst_1 (by rw [mf_storms_B18, if_neg c_2, zlet_eq ht_3, if_pos c_4])) (mYR_u ok_1_m_at (by omega)) H locs hP hD hS ls (lv_sub hl [0, 1, 2, 3] rfl)
          · refine lv_goto (tgt := 71) hx hb dX7_storms_44 (by decide) ?_
            refine lv_iinc (v := nI (k_1 + 1)) (lv' := [(3, .int (nI (k_1 + 1))), (2, .int ((m_at 3) &&& ((m_at 4) ^^^ (-1)))), (0, .ref (ad 0)), (1, .int stn)]) hx hb dX7_storms_71 hl (k := 0) rfl (nI_add k_1 1) (by decide) rfl (fun ls hl => ?_)
            refine lv_goto (tgt := 18) hx hb dX7_storms_74 (by decide) ?_
            exact ih_1 (k_1 + 1) (t_3.2, s_1.2.1, s_1.2.2) hlt_1 (by omega) (zf_s hst_1 (by rw [mf_storms_B18, if_neg c_2, zlet_eq ht_3, if_neg c_4])) ok_1_m_at H locs hP hD hS ls (lv_sub hl [0, 1, 2, 3] rfl)
  exact hlp_1 ((Wd * R) + 1) 0 (m_drawn, m_at, m_ran) (Nat.zero_le _) (by omega) rfl hY H locs hP hD hS ls (lv_sub hl [0, 1, 2, 3] rfl)
def mf_isBorn (m_drawn : Int32) (m_at : Nat → Int32) (m_ran : Nat → Int32) (Wd : Nat) (R : Nat) : Bool × Int32 × (Nat → Int32) × (Nat → Int32) :=
  zlet (mf_draw m_drawn (nI Wd)) (fun t_1 =>
  zlet (mf_draw t_1.2 (nI R)) (fun t_2 =>
  (if (((mf_free m_at) &&& ((m_at 3) ^^^ (-1))) &&& (mf_bitOf Wd t_1.1 t_2.1)) = 0 then
    (false, t_2.2, m_at, m_ran)
  else
    (true, t_2.2, upd m_at 3 ((m_at 3) ||| (mf_bitOf Wd t_1.1 t_2.1)), upd m_ran 3 ((m_ran 3) + 1)))))
theorem hd_X7_isBorn : yX7_isBorn.cls = RX7 ∧ yX7_isBorn.cls ≠ "java/lang/invoke/MethodHandle" ∧ yX7_isBorn.cls ≠ "java/lang/invoke/VarHandle" ∧ (parseMethodDescriptor yX7_isBorn.desc).map (fun d => d.parameters.length) = some 0 := by decide +kernel
set_option maxHeartbeats 4000000 in
set_option maxRecDepth 100000 in
theorem mt_mf_isBorn (l : Launch) (G : zG) (ad : Nat → Nat) (m_status : Int32) (m_top : Int64) (m_bottom : Int64) (m_taped : Int32) (m_size : Int32) (m_token : Int32) (m_from : Int32) (m_end : Int32) (m_value : Int32) (m_faultKind : Int32) (m_faultPlace : Int32) (m_faults : Int32) (m_seen : Int32) (m_depth : Int32) (m_counted : Int32) (m_lead : Int32) (m_round : Int32) (m_tried : Int32) (m_triedMany : Int32) (m_drawn : Int32) (m_ranSteps : Int32) (m_isTold : Bool) (m_marks : Int32) (m_at : Nat → Int32) (m_names : Nat → Int64) (m_sort : Nat → Int32) (m_trayMany : Nat → Int32) (m_trays : Nat → Int64) (m_tape : Nat → Int32) (m_text : Nat → Int32) (m_opened : Nat → Int32) (m_beside : Nat → Int32) (m_then : Nat → Int32) (m_ways : Nat → Int64) (m_further : Nat → Int64) (m_canBe : Nat → Int32) (m_loops : Nat → Int32) (m_ran : Nat → Int32) (m_told0 : Nat → Int32) (Wd : Nat) (R : Nat) (nr : Nat) (nc : Nat) (nn : Nat) (hY : mYR m_at Wd R nr nc nn) (sz : Nat) : Met l yX7_isBorn (ws_ yX7_isBorn cX7_isBorn 3 (some .boolean)) (zR 2 0 0) (zPm G sz [.ref (ad 0)] (mW G ad m_status m_top m_bottom m_taped m_size m_token m_from m_end m_value m_faultKind m_faultPlace m_faults m_seen m_depth m_counted m_lead m_round m_tried m_triedMany m_drawn m_ranSteps m_isTold m_marks m_at m_names m_sort m_trayMany m_trays m_tape m_text m_opened m_beside m_then m_ways m_further m_canBe m_loops m_ran m_told0)) (zQm G (mYR ((mf_isBorn m_drawn m_at m_ran Wd R).2.2.1) Wd R nr nc nn) (some (.int (zb ((mf_isBorn m_drawn m_at m_ran Wd R).1)))) (mW G ad m_status m_top m_bottom m_taped m_size m_token m_from m_end m_value m_faultKind m_faultPlace m_faults m_seen m_depth m_counted m_lead m_round m_tried m_triedMany ((mf_isBorn m_drawn m_at m_ran Wd R).2.1) m_ranSteps m_isTold m_marks ((mf_isBorn m_drawn m_at m_ran Wd R).2.2.1) m_names m_sort m_trayMany m_trays m_tape m_text m_opened m_beside m_then m_ways m_further m_canBe m_loops ((mf_isBorn m_drawn m_at m_ran Wd R).2.2.2) m_told0) (va_A (mW G ad m_status m_top m_bottom m_taped m_size m_token m_from m_end m_value m_faultKind m_faultPlace m_faults m_seen m_depth m_counted m_lead m_round m_tried m_triedMany m_drawn m_ranSteps m_isTold m_marks m_at m_names m_sort m_trayMany m_trays m_tape m_text m_opened m_beside m_then m_ways m_further m_canBe m_loops m_ran m_told0) sz)) 0 0 (va_A (mW G ad m_status m_top m_bottom m_taped m_size m_token m_from m_end m_value m_faultKind m_faultPlace m_faults m_seen m_depth m_counted m_lead m_round m_tried m_triedMany m_drawn m_ranSteps m_isTold m_marks m_at m_names m_sort m_trayMany m_trays m_tape m_text m_opened m_beside m_then m_ways m_further m_canBe m_loops m_ran m_told0) sz) := by
  refine zr_entM (by decide) (Nat.le_of_ble_eq_true rfl) ?_
  intro p e s m below meth c ⟨hx, hb, hr, hml, hown, hts, hlocks, hnm⟩ ls hl hP hK A hE hA hD hS
  have hown : s.vm.findClass RX7 = some m.cls := hown
  have hl : lv_has ls 3 [(0, .ref (ad 0))] := hl
  obtain ⟨H, hH⟩ : ∃ H, H = s.heap := ⟨_, rfl⟩
  obtain ⟨locs, hlo⟩ : ∃ L : List Loc, L = [] := ⟨_, rfl⟩
  rw [← hH] at hP
  have hS : va_S A s.heap H locs := by rw [hH, hlo]; exact va_S.rf
  have hgo : W p l e (zR 2 0 0) s m ([.ref (ad 0)] : List Value).toArray below meth c H locs 0 0 (MQ below (zQm G (mYR ((mf_isBorn m_drawn m_at m_ran Wd R).2.2.1) Wd R nr nc nn) (some (.int (zb ((mf_isBorn m_drawn m_at m_ran Wd R).1)))) (mW G ad m_status m_top m_bottom m_taped m_size m_token m_from m_end m_value m_faultKind m_faultPlace m_faults m_seen m_depth m_counted m_lead m_round m_tried m_triedMany ((mf_isBorn m_drawn m_at m_ran Wd R).2.1) m_ranSteps m_isTold m_marks ((mf_isBorn m_drawn m_at m_ran Wd R).2.2.1) m_names m_sort m_trayMany m_trays m_tape m_text m_opened m_beside m_then m_ways m_further m_canBe m_loops ((mf_isBorn m_drawn m_at m_ran Wd R).2.2.2) m_told0) A) ([.ref (ad 0)] : List Value).toArray s 0 0 A) (F0 m 0 ls []) := ?_
  · rw [hH, hlo] at hgo; exact hgo
  clear hH hlo
  have hG := hY.1
  have hnn6 := hY.2.2.1
  have hWR := mOK_WR hG
  have hW0 := mOK_W0 hG
  have hW5 := mOK_W5 hG
  have hR0 := mOK_R0 hG
  have hR6 := mOK_R6 hG
  have hn4 := mOK_n4 hG
  have hc6 := mOK_c6 hG
  refine lv_aload_n hx hb dX7_isBorn_0 rfl (lv_at hl 0 rfl) ?_
  refine lv_aload_n hx hb dX7_isBorn_1 rfl (lv_at hl 0 rfl) ?_
  refine va_get (D := G.1) (ci := 7) (v := .ref (ad 1)) (C := RX7) (T := TX7) (N := 39) hx hb hts in_X7 hown hK.1 hP 0 rfl rfl 0 (Nat.le_of_ble_eq_true rfl) (hts _ q1467) (fun _ h => h) rfl dX7_isBorn_2 ?_
  refine lv_iconst (v := 0) hx hb dX7_isBorn_5 (by decide) ?_
  refine zr_iald 0 (v := nI Wd) hx hb hK hP 1 rfl rfl (Nat.le_of_ble_eq_true rfl) rfl (by decide) (mYR_w hY) dX7_isBorn_6 ?_
  refine zr_muV (F := mf_draw m_drawn (nI Wd)) (ff := fun t_1 => True) (rr := fun t_1 => some (.int t_1.1)) (w1 := fun t_1 => (mW G ad m_status m_top m_bottom m_taped m_size m_token m_from m_end m_value m_faultKind m_faultPlace m_faults m_seen m_depth m_counted m_lead m_round m_tried m_triedMany t_1.2 m_ranSteps m_isTold m_marks m_at m_names m_sort m_trayMany m_trays m_tape m_text m_opened m_beside m_then m_ways m_further m_canBe m_loops m_ran m_told0)) ⟨hx, hb, hml, hown, hts⟩ (mt_mf_draw l G ad m_status m_top m_bottom m_taped m_size m_token m_from m_end m_value m_faultKind m_faultPlace m_faults m_seen m_depth m_counted m_lead m_round m_tried m_triedMany m_drawn m_ranSteps m_isTold m_marks m_at m_names m_sort m_trayMany m_trays m_tape m_text m_opened m_beside m_then m_ways m_further m_canBe m_loops m_ran m_told0 (nI Wd) (nI_ne0 (by omega) (by omega)) H.size) (cwV 1 hts (lw_V q2118 q2120 qs129 q144 q2121) rfl rfl rfl hd_X7_draw ⟨(Nat.le_of_ble_eq_true rfl), (Nat.le_of_ble_eq_true rfl)⟩) hP hD hS hA hK hE 0 7 rfl rfl rfl hl.1 rfl (Nat.le_of_ble_eq_true rfl) dX7_isBorn_7 ⟨Nat.le_refl _, Nat.le_refl _⟩ (fun t_1 ht_1 hft_1 H locs hP hD hS _ => ?_)
  refine W.eq (g2 := F0 m 10 ls [.int t_1.1]) rfl ?_
  refine lv_istore_n (lv' := [(1, .int t_1.1), (0, .ref (ad 0))]) hx hb dX7_isBorn_10 rfl hl (by decide) rfl (fun ls hl => ?_)
  refine lv_aload_n hx hb dX7_isBorn_11 rfl (lv_at hl 1 rfl) ?_
  refine lv_iload_n hx hb dX7_isBorn_12 rfl (lv_at hl 0 rfl) ?_
  refine lv_aload_n hx hb dX7_isBorn_13 rfl (lv_at hl 1 rfl) ?_
  refine lv_aload_n hx hb dX7_isBorn_14 rfl (lv_at hl 1 rfl) ?_
  refine va_get (D := G.1) (ci := 7) (v := .ref (ad 1)) (C := RX7) (T := TX7) (N := 39) hx hb hts in_X7 hown hK.1 hP 0 rfl rfl 0 (Nat.le_of_ble_eq_true rfl) (hts _ q1467) (fun _ h => h) rfl dX7_isBorn_15 ?_
  refine lv_iconst (v := 1) hx hb dX7_isBorn_18 (by decide) ?_
  refine zr_iald 1 (v := nI R) hx hb hK hP 1 rfl rfl (Nat.le_of_ble_eq_true rfl) rfl (by decide) (mYR_r hY) dX7_isBorn_19 ?_
  refine zr_muV (F := mf_draw t_1.2 (nI R)) (ff := fun t_2 => True) (rr := fun t_2 => some (.int t_2.1)) (w1 := fun t_2 => (mW G ad m_status m_top m_bottom m_taped m_size m_token m_from m_end m_value m_faultKind m_faultPlace m_faults m_seen m_depth m_counted m_lead m_round m_tried m_triedMany t_2.2 m_ranSteps m_isTold m_marks m_at m_names m_sort m_trayMany m_trays m_tape m_text m_opened m_beside m_then m_ways m_further m_canBe m_loops m_ran m_told0)) ⟨hx, hb, hml, hown, hts⟩ (mt_mf_draw l G ad m_status m_top m_bottom m_taped m_size m_token m_from m_end m_value m_faultKind m_faultPlace m_faults m_seen m_depth m_counted m_lead m_round m_tried m_triedMany t_1.2 m_ranSteps m_isTold m_marks m_at m_names m_sort m_trayMany m_trays m_tape m_text m_opened m_beside m_then m_ways m_further m_canBe m_loops m_ran m_told0 (nI R) (nI_ne0 (by omega) (by omega)) H.size) (cwV 1 hts (lw_V q2118 q2120 qs129 q144 q2121) rfl rfl rfl hd_X7_draw ⟨(Nat.le_of_ble_eq_true rfl), (Nat.le_of_ble_eq_true rfl)⟩) hP hD hS hA hK hE 0 7 rfl rfl rfl hl.1 rfl (Nat.le_of_ble_eq_true rfl) dX7_isBorn_20 ⟨Nat.le_refl _, Nat.le_refl _⟩ (fun t_2 ht_2 hft_2 H locs hP hD hS _ => ?_)
  refine W.eq (g2 := F0 m 23 ls [.int t_2.1, .int t_1.1, .ref (ad 0)]) rfl ?_
  refine zr_obV ⟨hx, hb, hml, hown, hts⟩ (mt_mf_bitOf l G ad m_status m_top m_bottom m_taped m_size m_token m_from m_end m_value m_faultKind m_faultPlace m_faults m_seen m_depth m_counted m_lead m_round m_tried m_triedMany t_2.2 m_ranSteps m_isTold m_marks m_at m_names m_sort m_trayMany m_trays m_tape m_text m_opened m_beside m_then m_ways m_further m_canBe m_loops m_ran m_told0 Wd R nr nc t_1.1 t_2.1 (mYR_G hY)) (cwV 2 hts (lw_V q1807 q1809 qs95 q144 q1810) rfl rfl rfl hd_X7_bitOf ⟨(Nat.le_of_ble_eq_true rfl), (Nat.le_of_ble_eq_true rfl)⟩) hP hK (zE_o hE hS) 0 7 rfl rfl rfl hl.1 rfl (Nat.le_of_ble_eq_true rfl) dX7_isBorn_23 ⟨Nat.le_refl _, Nat.le_refl _⟩ ?_
  refine lv_istore_n (lv' := [(2, .int (mf_bitOf Wd t_1.1 t_2.1)), (1, .int t_1.1), (0, .ref (ad 0))]) hx hb dX7_isBorn_26 rfl hl (by decide) rfl (fun ls hl => ?_)
  refine lv_aload_n hx hb dX7_isBorn_27 rfl (lv_at hl 2 rfl) ?_
  refine zr_obV ⟨hx, hb, hml, hown, hts⟩ (mt_mf_free l G ad m_status m_top m_bottom m_taped m_size m_token m_from m_end m_value m_faultKind m_faultPlace m_faults m_seen m_depth m_counted m_lead m_round m_tried m_triedMany t_2.2 m_ranSteps m_isTold m_marks m_at m_names m_sort m_trayMany m_trays m_tape m_text m_opened m_beside m_then m_ways m_further m_canBe m_loops m_ran m_told0) (cwV 0 hts (lw_V q1855 q1857 qs102 q144 q1858) rfl rfl rfl hd_X7_free ⟨(Nat.le_of_ble_eq_true rfl), (Nat.le_of_ble_eq_true rfl)⟩) hP hK (zE_o hE hS) 0 7 rfl rfl rfl hl.1 rfl (Nat.le_of_ble_eq_true rfl) dX7_isBorn_28 ⟨Nat.le_refl _, Nat.le_refl _⟩ ?_
  refine lv_aload_n hx hb dX7_isBorn_31 rfl (lv_at hl 2 rfl) ?_
  refine va_get (D := G.1) (ci := 7) (v := .ref (ad 1)) (C := RX7) (T := TX7) (N := 39) hx hb hts in_X7 hown hK.1 hP 0 rfl rfl 0 (Nat.le_of_ble_eq_true rfl) (hts _ q1467) (fun _ h => h) rfl dX7_isBorn_32 ?_
  refine lv_iconst (v := 3) hx hb dX7_isBorn_35 (by decide) ?_
  refine zr_iald 3 (v := m_at 3) hx hb hK hP 1 rfl rfl (Nat.le_of_ble_eq_true rfl) rfl (by decide) rfl dX7_isBorn_36 ?_
  refine lv_iconst (v := (-1)) hx hb dX7_isBorn_37 (by decide) ?_
  refine lv_ixor hx hb dX7_isBorn_38 ?_
  refine lv_iand hx hb dX7_isBorn_39 ?_
  refine lv_iload_n hx hb dX7_isBorn_40 rfl (lv_at hl 0 rfl) ?_
  refine lv_iand hx hb dX7_isBorn_41 ?_
  refine lv_if_ne (tgt := 47) hx hb dX7_isBorn_42 (by decide) (fun c_3 => ?_) (fun c_3 => ?_)
  · refine lv_aload_n hx hb dX7_isBorn_47 rfl (lv_at hl 2 rfl) ?_
    refine va_get (D := G.1) (ci := 7) (v := .ref (ad 1)) (C := RX7) (T := TX7) (N := 39) hx hb hts in_X7 hown hK.1 hP 0 rfl rfl 0 (Nat.le_of_ble_eq_true rfl) (hts _ q1467) (fun _ h => h) rfl dX7_isBorn_48 ?_
    refine lv_iconst (v := 3) hx hb dX7_isBorn_51 (by decide) ?_
    refine lv_dup2_11 hx hb dX7_isBorn_52 rfl rfl ?_
    refine zr_iald 3 (v := m_at 3) hx hb hK hP 1 rfl rfl (Nat.le_of_ble_eq_true rfl) rfl (by decide) rfl dX7_isBorn_53 ?_
    refine lv_iload_n hx hb dX7_isBorn_54 rfl (lv_at hl 0 rfl) ?_
    refine lv_ior hx hb dX7_isBorn_55 ?_
    refine zr_iast 3 (ws' := (mW G ad m_status m_top m_bottom m_taped m_size m_token m_from m_end m_value m_faultKind m_faultPlace m_faults m_seen m_depth m_counted m_lead m_round m_tried m_triedMany t_2.2 m_ranSteps m_isTold m_marks (upd m_at 3 ((m_at 3) ||| (mf_bitOf Wd t_1.1 t_2.1))) m_names m_sort m_trayMany m_trays m_tape m_text m_opened m_beside m_then m_ways m_further m_canBe m_loops m_ran m_told0)) hx hb hK hP hD hS 1 rfl rfl (Nat.le_of_ble_eq_true rfl) rfl (by decide) rfl dX7_isBorn_56 (fun H locs hP hD hS => ?_)
    refine lv_aload_n hx hb dX7_isBorn_57 rfl (lv_at hl 2 rfl) ?_
    refine va_get (D := G.1) (ci := 7) (v := .ref (ad 15)) (C := RX7) (T := TX7) (N := 39) hx hb hts in_X7 hown hK.1 hP 0 rfl rfl 35 (Nat.le_of_ble_eq_true rfl) (hts _ q1502) (fun _ h => h) rfl dX7_isBorn_58 ?_
    refine lv_iconst (v := 3) hx hb dX7_isBorn_61 (by decide) ?_
    refine lv_dup2_11 hx hb dX7_isBorn_62 rfl rfl ?_
    refine zr_iald 3 (v := m_ran 3) hx hb hK hP 15 rfl rfl (Nat.le_of_ble_eq_true rfl) rfl (by decide) rfl dX7_isBorn_63 ?_
    refine lv_iconst (v := 1) hx hb dX7_isBorn_64 (by decide) ?_
    refine lv_iadd hx hb dX7_isBorn_65 ?_
    refine zr_iast 3 (ws' := (mW G ad m_status m_top m_bottom m_taped m_size m_token m_from m_end m_value m_faultKind m_faultPlace m_faults m_seen m_depth m_counted m_lead m_round m_tried m_triedMany t_2.2 m_ranSteps m_isTold m_marks (upd m_at 3 ((m_at 3) ||| (mf_bitOf Wd t_1.1 t_2.1))) m_names m_sort m_trayMany m_trays m_tape m_text m_opened m_beside m_then m_ways m_further m_canBe m_loops (upd m_ran 3 ((m_ran 3) + 1)) m_told0)) hx hb hK hP hD hS 15 rfl rfl (Nat.le_of_ble_eq_true rfl) rfl (by decide) rfl dX7_isBorn_66 (fun H locs hP hD hS => ?_)
    refine lv_iconst (v := 1) hx hb dX7_isBorn_67 (by decide) ?_
    have e_ : mf_isBorn m_drawn m_at m_ran Wd R = (true, t_2.2, upd m_at 3 ((m_at 3) ||| (mf_bitOf Wd t_1.1 t_2.1)), upd m_ran 3 ((m_ran 3) + 1)) := by rw [mf_isBorn, zlet_eq ht_1, zlet_eq ht_2, if_neg c_3]
    exact zr_mz hx hb hr hlocks hP hD hS dX7_isBorn_68 rfl (by rw [e_]; rfl) (by rw [e_]) (by rw [e_]; exact (mYR_u hY (by omega)))
  · refine lv_iconst (v := 0) hx hb dX7_isBorn_45 (by decide) ?_
    have e_ : mf_isBorn m_drawn m_at m_ran Wd R = (false, t_2.2, m_at, m_ran) := by rw [mf_isBorn, zlet_eq ht_1, zlet_eq ht_2, if_pos c_3]
    exact zr_mz hx hb hr hlocks hP hD hS dX7_isBorn_46 rfl (by rw [e_]; rfl) (by rw [e_]) (by rw [e_]; exact hY)
